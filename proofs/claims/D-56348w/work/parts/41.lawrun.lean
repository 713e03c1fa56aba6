/-! ===== the law's walk, from the Statement's entry to its end ===== -/
theorem zsame_drop {s s' : State} {L : List Loc} {k n : Nat} (h : s.sameButNew s' L k n) (hL : ∀ x ∈ L, s.heap.size ≤ x.base) : s.sameButNew s' [] k n := by
  obtain ⟨h1, h2, h3, h4, h5, h6⟩ := h
  refine ⟨h1, h2, h3, h4, h5, fun a c hc => ?_⟩
  obtain ⟨c', e1, e2, e3, e4⟩ := h6 a c hc
  refine ⟨c', e1, e2, e3, fun i _ => e4 i fun hm => ?_⟩
  exact absurd (Array.getElem?_eq_some_iff.mp hc).1 (Nat.not_lt.mpr (hL _ hm))
theorem law_run {p : Program} {e : Env} {s : State} {m : MethodId} {below : List Frame} {meth : Method} {c : Code} (l : Launch) (hl : l.stackTraces = false) {b L : Nat} {xs : Nat → Int32} (C0 : lw_At p s m meth c b L xs) {E : zE} {D : va_G} {tA : Nat → ClassId} {h0 h' : zH}
    (r1 : zRep E D tA h0 s.heap) (hK : va_K D zCL (zTys tA) s) (hG : zG E s s.heap) (hNw : zNw s) (hE : E 0 = s.heap.size)
    (em : s_L_law E (some b) h0 = some (.inl (some (.int 1)), h')) (hc : h'.1 ≤ h0.1 + 1200144) (hs : h'.2.1 ≤ h0.2.1 + 5495098) :
    W p l e room_1 s m #[Value.ref b] below meth c s.heap [] 0 0 (lw_Z below #[Value.ref b] s) (entryFrame m ([Value.ref b] : List Value).toArray 9) := by
  obtain ⟨hexec, hb, hret, hml, hown, hts, hX, hbl, hlocks, hpre⟩ := C0
  rw [lg_entry_eq]
  intro T hT X
  have Y := vx_rebase X (R' := { frames := 524, cells := h'.1 - h0.1, slots := h'.2.1 - h0.2.1, locals := 64 * 524 }) (by show 524 ≤ 8192; decide) (by show 64 * 524 ≤ 104096; decide) (by show 0 + (h'.1 - h0.1) ≤ 1200144; omega) (by show 0 + (h'.2.1 - h0.2.1) ≤ 5495098; omega)
  obtain ⟨s', hA'⟩ : ∃ z, z = (T.setVm s.vm).setFrames (.invoking m #[Value.ref b] :: below) := ⟨_, rfl⟩
  rw [← hA'] at Y
  have hvm : s'.vm = s.vm := by rw [hA']; rfl
  have hhp : s'.heap = s.heap := by rw [hA']; exact hT
  have hW0 : s.WarmedH s'.vm := by rw [hvm]; exact State.WarmedH.refl s
  have x : zCx p l { frames := 524, cells := h'.1 - h0.1, slots := h'.2.1 - h0.2.1, locals := 64 * 524 } s' m #[Value.ref b] meth c E D tA cL_law 9 yL_law.cls 524 := by
    refine ⟨hexec, hb, hml, by rw [hvm]; exact hown, fun w hw => vx_ot_at (s := s) (U := s') hW0 hvm.symm (by simp [vx_ot, (List.mem_filter.mp hw).2]) (hts w (List.mem_filter.mp hw).1), va_K.moved hW0.alike hK, ?_, zNw.moved hW0 hNw, by rw [hhp, hE]; exact Nat.le_refl _, hlocks, rfl, rfl, hl⟩
    rw [hhp]
    exact zG.moved hW0 (fun _ _ _ => rfl) hG
  have hw := m_L_law (k0 := h0.2.1) (below := below) (e := e) x hl hret trivial trivial (some b) h0 _ h' em
  have e1 : h0.1 = s'.heap.size := by rw [hhp]; exact r1.1.symm
  have hent := lv_entry (zStk [zP (some b)]) (n := 9) (by rw [zSl_len]; exact (Nat.le_of_ble_eq_true rfl))
  have hr := hw.2 (Nat.le_of_eq e1.symm) (Nat.le_refl _) (by show h'.1 - h0.1 = _; rw [e1]) rfl s'.heap [] _ (by rw [hhp]; exact r1) va_S.rf (by rw [show zLoc [(0, zP (some b))] = lv_args 0 (zStk [zP (some b)]) from rfl]; exact hent)
  rw [show h0.1 - s'.heap.size = 0 by omega, Nat.sub_self] at hr
  obtain ⟨t, a1, o, b1, b2, b3⟩ := hr T (by rw [hhp]; exact hT) Y
  refine ⟨t, a1, o, b1, b2, ?_⟩
  rcases b3 with ⟨⟨⟨v, hv, ho⟩, -, -⟩, L9, ⟨-, hW2, hsm⟩, hL9⟩ | ⟨q, -, E9, ce, L9, ⟨hx, -⟩, -⟩
  · cases hv
    refine ⟨ho, ⟨_, ho⟩, ?_, ?_⟩
    · have hW3 : s'.WarmedH t.vm := hW2
      exact State.WarmedH.trans hW0 hW3
    · have hT2 : s.sameButNew s' [] 0 0 := by
        rw [hA']
        exact X.same.setFrames (.invoking m #[Value.ref b] :: below) (State.cur_lt_of_frames X.frames)
      have hsm2 : s'.sameButNew ({ t with vm := s.vm } : State) [] (h'.1 - h0.1) (h'.2.1 - h0.2.1) := by
        rw [← hvm]
        refine (zsame_drop hsm (fun q hq => ?_)).mono ?_ ?_
        · have := hL9 q hq
          rw [hhp, ← hE]
          exact this
        · rw [← e1]; exact Nat.le_refl _
        · exact Nat.le_refl _
      exact (hT2.trans hsm2).mono (by omega) (by omega)
  · cases hx
