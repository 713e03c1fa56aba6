/-! ===== walks (by program) ===== -/
set_option maxRecDepth 100000
set_option linter.unusedVariables false
section ZGEN7
variable {p : Program} {l : Launch} {e : Env} {R : Room} {s : State} {m : MethodId} {args : Array Value} {below : List Frame} {meth : Method} {c : Code} {E : zE} {D : va_G} {tA : Nat → ClassId} {k0 : Nat}
/-! X6_isGiven -/
def s_X6_isGiven_15 (E : zE) (a0 : Option Nat) (a1 : Int32) (a2 : Int32) (a3 : Int32) (b0 : Option Nat) (b1 : Int32) : zM := zC (zRv b0 [(34, fun b => s_X6_isThrown E (some b) b1 (1 : Int32))]) zThr (zKI (fun v16 => if v16 = 0 then (zGetR a0 34 0 (fun v23 => zC (s_X6_factOf E a1 a2 a3) zThr (zKI (fun v30 => zGaI 0 v23 ((4 : Int32) + v30) (fun v34 => if v34 = (1 : Int32) then (zRetN .boolean (1 : Int32)) else (zRetN .boolean (0 : Int32))))))) else (zRetN .boolean (0 : Int32))))
theorem w_X6_isGiven_15 (x : zCx p l R s m args meth c E D tA cX6_isGiven 4 yX6_isGiven.cls 12) (hl : l.stackTraces = false) (hret : meth.sig.returnType = (Option.some Jvm.ClassFile.FieldType.boolean)) (hnm : meth.name = yX6_isGiven.name) (htab : ∀ z ∈ c.exceptionTable.toList, False) (a0 : Option Nat) (a1 : Int32) (a2 : Int32) (a3 : Int32) (b0 : Option Nat) (b1 : Int32) : zW p l e R s m args below meth c E D tA 4 k0 (s_X6_isGiven_15 E a0 a1 a2 a3 b0 b1) [(0, zP a0), (1, zI a1), (2, zI a2), (3, zI a3)] 15 [zI b1, zP b0] := by
  unfold s_X6_isGiven_15
  refine z_iconst (pc := 15) x (v := (1 : Int32)) dX6_isGiven_15 rfl ?_
  refine z_call (pc := 16) (z_canV (pc := 16) (As := [zI b1, zI (1 : Int32)]) (st := []) x (ci := 34) rfl (fun b => m_X6_isThrown hl (some b) b1 (1 : Int32)) q2898 q2900 (z_selP x (ci := 34) rfl (by decide) (zNi_inst x q2780) q2899 q2900) q121 q2901 n_X6_isThrown ⟨by decide, by decide⟩ (Nat.le_of_ble_eq_true rfl) dX6_isGiven_16) (zv_I fun v16 => ?_) (fun q => zx_thr x (fun z hz => (htab z hz).elim) q)
  refine z_if_ne (pc := 19) (tgt := 43) x dX6_isGiven_19 rfl (fun _ => ?_) (fun _ => ?_)
  · refine z_aload_n (pc := 22) x 0 dX6_isGiven_22 rfl rfl ?_
    refine z_get (pc := 23) (fun _ _ h => zAsR_eq h) x in_X6 (ci := 34) rfl (k := 0) (by decide) q2785 (fun _ h => h) dX6_isGiven_23 fun v23 => ?_
    refine z_iconst (pc := 26) x (v := (4 : Int32)) dX6_isGiven_26 rfl ?_
    refine z_iload_n (pc := 27) x 1 dX6_isGiven_27 rfl rfl ?_
    refine z_iload_n (pc := 28) x 2 dX6_isGiven_28 rfl rfl ?_
    refine z_iload_n (pc := 29) x 3 dX6_isGiven_29 rfl rfl ?_
    refine z_call (pc := 30) (z_canS (pc := 30) (As := [zI a1, zI a2, zI a3]) (st := [zI (4 : Int32), zP v23]) x (m_X6_factOf hl a1 a2 a3) q2902 q2903 q121 q2904 n_X6_factOf ⟨by decide, by decide⟩ (Nat.le_of_ble_eq_true rfl) dX6_isGiven_30) (zv_I fun v30 => ?_) (fun q => zx_thr x (fun z hz => (htab z hz).elim) q)
    refine z_iadd (pc := 33) x dX6_isGiven_33 ?_
    refine z_iald (pc := 34) x (t := 0) rfl dX6_isGiven_34 fun v34 => ?_
    refine z_iconst (pc := 35) x (v := (1 : Int32)) dX6_isGiven_35 rfl ?_
    refine z_icmp_ne (pc := 36) (tgt := 43) x dX6_isGiven_36 rfl (fun _ => ?_) (fun _ => ?_)
    · refine z_iconst (pc := 39) x (v := (1 : Int32)) dX6_isGiven_39 rfl ?_
      refine z_goto (pc := 40) (tgt := 44) x dX6_isGiven_40 rfl ?_
      exact z_zret (pc := 44) x hret dX6_isGiven_44
    · refine z_iconst (pc := 43) x (v := (0 : Int32)) dX6_isGiven_43 rfl ?_
      exact z_zret (pc := 44) x hret dX6_isGiven_44
  · refine z_iconst (pc := 43) x (v := (0 : Int32)) dX6_isGiven_43 rfl ?_
    exact z_zret (pc := 44) x hret dX6_isGiven_44
def s_X6_isGiven (E : zE) (a0 : Option Nat) (a1 : Int32) (a2 : Int32) (a3 : Int32) : zM := zC (s_X6_isFact E a1 a2 a3) zThr (zKI (fun v4 => if v4 = 0 then (s_X6_isGiven_15 E a0 a1 a2 a3 a0 (1 : Int32)) else (s_X6_isGiven_15 E a0 a1 a2 a3 a0 (0 : Int32))))
theorem m_X6_isGiven {l : Launch} {E : zE} {D : va_G} {tA : Nat → ClassId} (hl : l.stackTraces = false) (a0 : Option Nat) (a1 : Int32) (a2 : Int32) (a3 : Int32) : zMet l E D tA yX6_isGiven (ws_ yX6_isGiven cX6_isGiven 4 (Option.some Jvm.ClassFile.FieldType.boolean)) 12 (s_X6_isGiven E a0 a1 a2 a3) [zP a0, zI a1, zI a2, zI a3] := by
  refine z_met hl (by decide +kernel) (by rw [zSl_len]; exact (Nat.le_of_ble_eq_true rfl)) fun p e R s m args below meth c k0 x hret hnm htab => ?_
  refine z_lv [(0, zP a0), (1, zI a1), (2, zI a2), (3, zI a3)] rfl ?_
  unfold s_X6_isGiven
  refine z_aload_n (pc := 0) x 0 dX6_isGiven_0 rfl rfl ?_
  refine z_iload_n (pc := 1) x 1 dX6_isGiven_1 rfl rfl ?_
  refine z_iload_n (pc := 2) x 2 dX6_isGiven_2 rfl rfl ?_
  refine z_iload_n (pc := 3) x 3 dX6_isGiven_3 rfl rfl ?_
  refine z_call (pc := 4) (z_canS (pc := 4) (As := [zI a1, zI a2, zI a3]) (st := [zP a0]) x (m_X6_isFact hl a1 a2 a3) q2889 q2890 q121 q2891 n_X6_isFact ⟨by decide, by decide⟩ (Nat.le_of_ble_eq_true rfl) dX6_isGiven_4) (zv_I fun v4 => ?_) (fun q => zx_thr x (fun z hz => (htab z hz).elim) q)
  refine z_if_ne (pc := 7) (tgt := 14) x dX6_isGiven_7 rfl (fun _ => ?_) (fun _ => ?_)
  · refine z_iconst (pc := 10) x (v := (1 : Int32)) dX6_isGiven_10 rfl ?_
    refine z_goto (pc := 11) (tgt := 15) x dX6_isGiven_11 rfl ?_
    exact z_sub [0, 1, 2, 3] rfl (w_X6_isGiven_15 x hl hret hnm htab a0 a1 a2 a3 a0 (1 : Int32))
  · refine z_iconst (pc := 14) x (v := (0 : Int32)) dX6_isGiven_14 rfl ?_
    exact z_sub [0, 1, 2, 3] rfl (w_X6_isGiven_15 x hl hret hnm htab a0 a1 a2 a3 a0 (0 : Int32))
/-! X6_isTrue -/
def s_X6_isTrue_15 (E : zE) (a0 : Option Nat) (a1 : Int32) (a2 : Int32) (a3 : Int32) (b0 : Option Nat) (b1 : Int32) : zM := zC (zRv b0 [(34, fun b => s_X6_isThrown E (some b) b1 (1 : Int32))]) zThr (zKI (fun v16 => if v16 = 0 then (zC (zRv a0 [(34, fun b => s_X6_finds E (some b))]) zThr (zKV (zGetR a0 34 9 (fun v29 => zC (s_X6_factOf E a1 a2 a3) zThr (zKI (fun v35 => zGaI 2 v29 v35 (fun v38 => zRetN .boolean v38))))))) else (zRetN .boolean (0 : Int32))))
theorem w_X6_isTrue_15 (x : zCx p l R s m args meth c E D tA cX6_isTrue 4 yX6_isTrue.cls 18) (hl : l.stackTraces = false) (hret : meth.sig.returnType = (Option.some Jvm.ClassFile.FieldType.boolean)) (hnm : meth.name = yX6_isTrue.name) (htab : ∀ z ∈ c.exceptionTable.toList, False) (a0 : Option Nat) (a1 : Int32) (a2 : Int32) (a3 : Int32) (b0 : Option Nat) (b1 : Int32) : zW p l e R s m args below meth c E D tA 4 k0 (s_X6_isTrue_15 E a0 a1 a2 a3 b0 b1) [(0, zP a0), (1, zI a1), (2, zI a2), (3, zI a3)] 15 [zI b1, zP b0] := by
  unfold s_X6_isTrue_15
  refine z_iconst (pc := 15) x (v := (1 : Int32)) dX6_isTrue_15 rfl ?_
  refine z_call (pc := 16) (z_canV (pc := 16) (As := [zI b1, zI (1 : Int32)]) (st := []) x (ci := 34) rfl (fun b => m_X6_isThrown hl (some b) b1 (1 : Int32)) q2898 q2900 (z_selP x (ci := 34) rfl (by decide) (zNi_inst x q2780) q2899 q2900) q121 q2901 n_X6_isThrown ⟨by decide, by decide⟩ (Nat.le_of_ble_eq_true rfl) dX6_isTrue_16) (zv_I fun v16 => ?_) (fun q => zx_thr x (fun z hz => (htab z hz).elim) q)
  refine z_if_eq (pc := 19) (tgt := 24) x dX6_isTrue_19 rfl (fun _ => ?_) (fun _ => ?_)
  · refine z_aload_n (pc := 24) x 0 dX6_isTrue_24 rfl rfl ?_
    refine z_call (pc := 25) (z_canV (pc := 25) (As := []) (st := []) x (ci := 34) rfl (fun b => m_X6_finds hl (some b)) q2923 q2925 (z_selP x (ci := 34) rfl (by decide) (zNi_inst x q2780) q2924 q2925) q121 q2926 n_X6_finds ⟨by decide, by decide⟩ (Nat.le_of_ble_eq_true rfl) dX6_isTrue_25) (zv_V ?_) (fun q => zx_thr x (fun z hz => (htab z hz).elim) q)
    refine z_aload_n (pc := 28) x 0 dX6_isTrue_28 rfl rfl ?_
    refine z_get (pc := 29) (fun _ _ h => zAsR_eq h) x in_X6 (ci := 34) rfl (k := 9) (by decide) q2794 (fun _ h => h) dX6_isTrue_29 fun v29 => ?_
    refine z_iload_n (pc := 32) x 1 dX6_isTrue_32 rfl rfl ?_
    refine z_iload_n (pc := 33) x 2 dX6_isTrue_33 rfl rfl ?_
    refine z_iload_n (pc := 34) x 3 dX6_isTrue_34 rfl rfl ?_
    refine z_call (pc := 35) (z_canS (pc := 35) (As := [zI a1, zI a2, zI a3]) (st := [zP v29]) x (m_X6_factOf hl a1 a2 a3) q2902 q2903 q121 q2904 n_X6_factOf ⟨by decide, by decide⟩ (Nat.le_of_ble_eq_true rfl) dX6_isTrue_35) (zv_I fun v35 => ?_) (fun q => zx_thr x (fun z hz => (htab z hz).elim) q)
    refine z_zald (pc := 38) x (t := 2) rfl dX6_isTrue_38 fun v38 => ?_
    exact z_zret (pc := 39) x hret dX6_isTrue_39
  · refine z_iconst (pc := 22) x (v := (0 : Int32)) dX6_isTrue_22 rfl ?_
    exact z_zret (pc := 23) x hret dX6_isTrue_23
def s_X6_isTrue (E : zE) (a0 : Option Nat) (a1 : Int32) (a2 : Int32) (a3 : Int32) : zM := zC (s_X6_isFact E a1 a2 a3) zThr (zKI (fun v4 => if v4 = 0 then (s_X6_isTrue_15 E a0 a1 a2 a3 a0 (1 : Int32)) else (s_X6_isTrue_15 E a0 a1 a2 a3 a0 (0 : Int32))))
theorem m_X6_isTrue {l : Launch} {E : zE} {D : va_G} {tA : Nat → ClassId} (hl : l.stackTraces = false) (a0 : Option Nat) (a1 : Int32) (a2 : Int32) (a3 : Int32) : zMet l E D tA yX6_isTrue (ws_ yX6_isTrue cX6_isTrue 4 (Option.some Jvm.ClassFile.FieldType.boolean)) 18 (s_X6_isTrue E a0 a1 a2 a3) [zP a0, zI a1, zI a2, zI a3] := by
  refine z_met hl (by decide +kernel) (by rw [zSl_len]; exact (Nat.le_of_ble_eq_true rfl)) fun p e R s m args below meth c k0 x hret hnm htab => ?_
  refine z_lv [(0, zP a0), (1, zI a1), (2, zI a2), (3, zI a3)] rfl ?_
  unfold s_X6_isTrue
  refine z_aload_n (pc := 0) x 0 dX6_isTrue_0 rfl rfl ?_
  refine z_iload_n (pc := 1) x 1 dX6_isTrue_1 rfl rfl ?_
  refine z_iload_n (pc := 2) x 2 dX6_isTrue_2 rfl rfl ?_
  refine z_iload_n (pc := 3) x 3 dX6_isTrue_3 rfl rfl ?_
  refine z_call (pc := 4) (z_canS (pc := 4) (As := [zI a1, zI a2, zI a3]) (st := [zP a0]) x (m_X6_isFact hl a1 a2 a3) q2889 q2890 q121 q2891 n_X6_isFact ⟨by decide, by decide⟩ (Nat.le_of_ble_eq_true rfl) dX6_isTrue_4) (zv_I fun v4 => ?_) (fun q => zx_thr x (fun z hz => (htab z hz).elim) q)
  refine z_if_ne (pc := 7) (tgt := 14) x dX6_isTrue_7 rfl (fun _ => ?_) (fun _ => ?_)
  · refine z_iconst (pc := 10) x (v := (1 : Int32)) dX6_isTrue_10 rfl ?_
    refine z_goto (pc := 11) (tgt := 15) x dX6_isTrue_11 rfl ?_
    exact z_sub [0, 1, 2, 3] rfl (w_X6_isTrue_15 x hl hret hnm htab a0 a1 a2 a3 a0 (1 : Int32))
  · refine z_iconst (pc := 14) x (v := (0 : Int32)) dX6_isTrue_14 rfl ?_
    exact z_sub [0, 1, 2, 3] rfl (w_X6_isTrue_15 x hl hret hnm htab a0 a1 a2 a3 a0 (0 : Int32))
/-! X6_isTrueByTrying -/
def s_X6_isTrueByTrying (E : zE) (a0 : Option Nat) (a1 : Int32) (a2 : Int32) (a3 : Int32) : zM := zC (zRv a0 [(34, fun b => s_X6_isTrue E (some b) a1 a2 a3)]) zThr (zKI (fun v4 => zRetN .boolean v4))
theorem m_X6_isTrueByTrying {l : Launch} {E : zE} {D : va_G} {tA : Nat → ClassId} (hl : l.stackTraces = false) (a0 : Option Nat) (a1 : Int32) (a2 : Int32) (a3 : Int32) : zMet l E D tA yX6_isTrueByTrying (ws_ yX6_isTrueByTrying cX6_isTrueByTrying 4 (Option.some Jvm.ClassFile.FieldType.boolean)) 19 (s_X6_isTrueByTrying E a0 a1 a2 a3) [zP a0, zI a1, zI a2, zI a3] := by
  refine z_met hl (by decide +kernel) (by rw [zSl_len]; exact (Nat.le_of_ble_eq_true rfl)) fun p e R s m args below meth c k0 x hret hnm htab => ?_
  refine z_lv [(0, zP a0), (1, zI a1), (2, zI a2), (3, zI a3)] rfl ?_
  unfold s_X6_isTrueByTrying
  refine z_aload_n (pc := 0) x 0 dX6_isTrueByTrying_0 rfl rfl ?_
  refine z_iload_n (pc := 1) x 1 dX6_isTrueByTrying_1 rfl rfl ?_
  refine z_iload_n (pc := 2) x 2 dX6_isTrueByTrying_2 rfl rfl ?_
  refine z_iload_n (pc := 3) x 3 dX6_isTrueByTrying_3 rfl rfl ?_
  refine z_call (pc := 4) (z_canV (pc := 4) (As := [zI a1, zI a2, zI a3]) (st := []) x (ci := 34) rfl (fun b => m_X6_isTrue hl (some b) a1 a2 a3) q3044 q3037 (x.2.2.2.2.1 _ q3038) q121 q3039 n_X6_isTrue ⟨by decide, by decide⟩ (Nat.le_of_ble_eq_true rfl) dX6_isTrueByTrying_4) (zv_I fun v4 => ?_) (fun q => zx_thr x (fun z hz => (htab z hz).elim) q)
  exact z_zret (pc := 7) x hret dX6_isTrueByTrying_7
/-! X6_begin -/
def s_X6_begin (E : zE) (a0 : Int32) : zM := zC (s_X6_isPair E a0) zThr (zKI (fun v1 => if v1 = 0 then (zRet (some (.int ((400 : Int32) + ((10 : Int32) * (a0 - (4 : Int32))))))) else (zRet (some (.int ((100 : Int32) * a0))))))
theorem m_X6_begin {l : Launch} {E : zE} {D : va_G} {tA : Nat → ClassId} (hl : l.stackTraces = false) (a0 : Int32) : zMet l E D tA yX6_begin (ws_ yX6_begin cX6_begin 1 (Option.some Jvm.ClassFile.FieldType.int)) 10 (s_X6_begin E a0) [zI a0] := by
  refine z_met hl (by decide +kernel) (by rw [zSl_len]; exact (Nat.le_of_ble_eq_true rfl)) fun p e R s m args below meth c k0 x hret hnm htab => ?_
  refine z_lv [(0, zI a0)] rfl ?_
  unfold s_X6_begin
  refine z_iload_n (pc := 0) x 0 dX6_begin_0 rfl rfl ?_
  refine z_call (pc := 1) (z_canS (pc := 1) (As := [zI a0]) (st := []) x (m_X6_isPair hl a0) q2908 q2909 q121 q2910 n_X6_isPair ⟨by decide, by decide⟩ (Nat.le_of_ble_eq_true rfl) dX6_begin_1) (zv_I fun v1 => ?_) (fun q => zx_thr x (fun z hz => (htab z hz).elim) q)
  refine z_if_eq (pc := 4) (tgt := 14) x dX6_begin_4 rfl (fun _ => ?_) (fun _ => ?_)
  · refine z_sipush (pc := 14) x (v := (400 : Int32)) dX6_begin_14 rfl ?_
    refine z_bipush (pc := 17) x (v := (10 : Int32)) dX6_begin_17 rfl ?_
    refine z_iload_n (pc := 19) x 0 dX6_begin_19 rfl rfl ?_
    refine z_iconst (pc := 20) x (v := (4 : Int32)) dX6_begin_20 rfl ?_
    refine z_isub (pc := 21) x dX6_begin_21 ?_
    refine z_imul (pc := 22) x dX6_begin_22 ?_
    refine z_iadd (pc := 23) x dX6_begin_23 ?_
    exact z_iret (pc := 24) x hret dX6_begin_24
  · refine z_bipush (pc := 7) x (v := (100 : Int32)) dX6_begin_7 rfl ?_
    refine z_iload_n (pc := 9) x 0 dX6_begin_9 rfl rfl ?_
    refine z_imul (pc := 10) x dX6_begin_10 ?_
    refine z_goto (pc := 11) (tgt := 24) x dX6_begin_11 rfl ?_
    exact z_iret (pc := 24) x hret dX6_begin_24
/-! X6_end -/
def s_X6_end (E : zE) (a0 : Int32) : zM := zC (s_X6_isPair E a0) zThr (zKI (fun v1 => if v1 = 0 then (zRet (some (.int ((410 : Int32) + ((10 : Int32) * (a0 - (4 : Int32))))))) else (zRet (some (.int (((100 : Int32) * a0) + (100 : Int32)))))))
theorem m_X6_end {l : Launch} {E : zE} {D : va_G} {tA : Nat → ClassId} (hl : l.stackTraces = false) (a0 : Int32) : zMet l E D tA yX6_end (ws_ yX6_end cX6_end 1 (Option.some Jvm.ClassFile.FieldType.int)) 10 (s_X6_end E a0) [zI a0] := by
  refine z_met hl (by decide +kernel) (by rw [zSl_len]; exact (Nat.le_of_ble_eq_true rfl)) fun p e R s m args below meth c k0 x hret hnm htab => ?_
  refine z_lv [(0, zI a0)] rfl ?_
  unfold s_X6_end
  refine z_iload_n (pc := 0) x 0 dX6_end_0 rfl rfl ?_
  refine z_call (pc := 1) (z_canS (pc := 1) (As := [zI a0]) (st := []) x (m_X6_isPair hl a0) q2908 q2909 q121 q2910 n_X6_isPair ⟨by decide, by decide⟩ (Nat.le_of_ble_eq_true rfl) dX6_end_1) (zv_I fun v1 => ?_) (fun q => zx_thr x (fun z hz => (htab z hz).elim) q)
  refine z_if_eq (pc := 4) (tgt := 17) x dX6_end_4 rfl (fun _ => ?_) (fun _ => ?_)
  · refine z_sipush (pc := 17) x (v := (410 : Int32)) dX6_end_17 rfl ?_
    refine z_bipush (pc := 20) x (v := (10 : Int32)) dX6_end_20 rfl ?_
    refine z_iload_n (pc := 22) x 0 dX6_end_22 rfl rfl ?_
    refine z_iconst (pc := 23) x (v := (4 : Int32)) dX6_end_23 rfl ?_
    refine z_isub (pc := 24) x dX6_end_24 ?_
    refine z_imul (pc := 25) x dX6_end_25 ?_
    refine z_iadd (pc := 26) x dX6_end_26 ?_
    exact z_iret (pc := 27) x hret dX6_end_27
  · refine z_bipush (pc := 7) x (v := (100 : Int32)) dX6_end_7 rfl ?_
    refine z_iload_n (pc := 9) x 0 dX6_end_9 rfl rfl ?_
    refine z_imul (pc := 10) x dX6_end_10 ?_
    refine z_bipush (pc := 11) x (v := (100 : Int32)) dX6_end_11 rfl ?_
    refine z_iadd (pc := 13) x dX6_end_13 ?_
    refine z_goto (pc := 14) (tgt := 27) x dX6_end_14 rfl ?_
    exact z_iret (pc := 27) x hret dX6_end_27
/-! X6_trueMany -/
def s_X6_trueMany_31 (E : zE) (k9 : Option Nat → Int32 → Int32 → Int32 → zM) (a0 : Option Nat) (a2 : Int32) (a4 : Int32) (b0 : Int32) (b1 : Int32) : zM := k9 a0 a2 (b0 + b1) (a4 + (1 : Int32))
theorem w_X6_trueMany_31 (x : zCx p l R s m args meth c E D tA cX6_trueMany 5 yX6_trueMany.cls 18) (hl : l.stackTraces = false) (hret : meth.sig.returnType = (Option.some Jvm.ClassFile.FieldType.int)) (hnm : meth.name = yX6_trueMany.name) (htab : ∀ z ∈ c.exceptionTable.toList, False) {k9 : Option Nat → Int32 → Int32 → Int32 → zM} (h9 : ∀ (a0 : Option Nat) (a2 : Int32) (a3 : Int32) (a4 : Int32) , zW p l e R s m args below meth c E D tA 5 k0 (k9 a0 a2 a3 a4) [(0, zP a0), (2, zI a2), (3, zI a3), (4, zI a4)] 9 []) (a0 : Option Nat) (a2 : Int32) (a4 : Int32) (b0 : Int32) (b1 : Int32) : zW p l e R s m args below meth c E D tA 5 k0 (s_X6_trueMany_31 E k9 a0 a2 a4 b0 b1) [(0, zP a0), (2, zI a2), (4, zI a4)] 31 [zI b1, zI b0] := by
  unfold s_X6_trueMany_31
  refine z_iadd (pc := 31) x dX6_trueMany_31 ?_
  refine z_istore_n (pc := 32) (lv' := [(3, zI (b0 + b1)), (0, zP a0), (2, zI a2), (4, zI a4)]) x dX6_trueMany_32 rfl (Nat.le_of_ble_eq_true rfl) rfl ?_
  refine z_iinc (pc := 33) (lv' := [(4, zI (a4 + (1 : Int32))), (3, zI (b0 + b1)), (0, zP a0), (2, zI a2)]) x (v2 := (a4 + (1 : Int32))) 3 dX6_trueMany_33 rfl rfl (Nat.le_of_ble_eq_true rfl) rfl ?_
  refine z_goto (pc := 36) (tgt := 9) x dX6_trueMany_36 rfl ?_
  exact z_sub [2, 3, 1, 0] rfl (h9 a0 a2 (b0 + b1) (a4 + (1 : Int32)))
def s_X6_trueMany_9 (E : zE) : Nat → Option Nat → Int32 → Int32 → Int32 → zM
  | 0, _, _, _, _ => zFail
  | n + 1, a0, a2, a3, a4 => if a2 ≤ a4 then (zRet (some (.int a3))) else (zGetR a0 34 9 (fun v17 => zGaI 2 v17 a4 (fun v22 => if v22 = 0 then (s_X6_trueMany_31 E (s_X6_trueMany_9 E n) a0 a2 a4 a3 (0 : Int32)) else (s_X6_trueMany_31 E (s_X6_trueMany_9 E n) a0 a2 a4 a3 (1 : Int32)))))
theorem w_X6_trueMany_9 (x : zCx p l R s m args meth c E D tA cX6_trueMany 5 yX6_trueMany.cls 18) (hl : l.stackTraces = false) (hret : meth.sig.returnType = (Option.some Jvm.ClassFile.FieldType.int)) (hnm : meth.name = yX6_trueMany.name) (htab : ∀ z ∈ c.exceptionTable.toList, False) : ∀ (n : Nat) (a0 : Option Nat) (a2 : Int32) (a3 : Int32) (a4 : Int32), zW p l e R s m args below meth c E D tA 5 k0 (s_X6_trueMany_9 E n a0 a2 a3 a4) [(0, zP a0), (2, zI a2), (3, zI a3), (4, zI a4)] 9 [] := by
  intro n
  induction n with
  | zero => intro a0 a2 a3 a4; exact z_fail
  | succ n h9 =>
    intro a0 a2 a3 a4
    rw [s_X6_trueMany_9]
    refine z_iload (pc := 9) x 3 dX6_trueMany_9 rfl ?_
    refine z_iload_n (pc := 11) x 1 dX6_trueMany_11 rfl rfl ?_
    refine z_icmp_ge (pc := 12) (tgt := 39) x dX6_trueMany_12 rfl (fun _ => ?_) (fun _ => ?_)
    · refine z_iload_n (pc := 39) x 2 dX6_trueMany_39 rfl rfl ?_
      exact z_iret (pc := 40) x hret dX6_trueMany_40
    · refine z_iload_n (pc := 15) x 2 dX6_trueMany_15 rfl rfl ?_
      refine z_aload_n (pc := 16) x 0 dX6_trueMany_16 rfl rfl ?_
      refine z_get (pc := 17) (fun _ _ h => zAsR_eq h) x in_X6 (ci := 34) rfl (k := 9) (by decide) q2794 (fun _ h => h) dX6_trueMany_17 fun v17 => ?_
      refine z_iload (pc := 20) x 3 dX6_trueMany_20 rfl ?_
      refine z_zald (pc := 22) x (t := 2) rfl dX6_trueMany_22 fun v22 => ?_
      refine z_if_eq (pc := 23) (tgt := 30) x dX6_trueMany_23 rfl (fun _ => ?_) (fun _ => ?_)
      · refine z_iconst (pc := 30) x (v := (0 : Int32)) dX6_trueMany_30 rfl ?_
        exact z_sub [0, 1, 3] rfl (w_X6_trueMany_31 x hl hret hnm htab h9 a0 a2 a4 a3 (0 : Int32))
      · refine z_iconst (pc := 26) x (v := (1 : Int32)) dX6_trueMany_26 rfl ?_
        refine z_goto (pc := 27) (tgt := 31) x dX6_trueMany_27 rfl ?_
        exact z_sub [0, 1, 3] rfl (w_X6_trueMany_31 x hl hret hnm htab h9 a0 a2 a4 a3 (1 : Int32))
def s_X6_trueMany (E : zE) (a0 : Option Nat) (a1 : Int32) (a2 : Int32) : zM := zC (zRv a0 [(34, fun b => s_X6_finds E (some b))]) zThr (zKV (s_X6_trueMany_9 E zN a0 a2 (0 : Int32) a1))
theorem m_X6_trueMany {l : Launch} {E : zE} {D : va_G} {tA : Nat → ClassId} (hl : l.stackTraces = false) (a0 : Option Nat) (a1 : Int32) (a2 : Int32) : zMet l E D tA yX6_trueMany (ws_ yX6_trueMany cX6_trueMany 5 (Option.some Jvm.ClassFile.FieldType.int)) 18 (s_X6_trueMany E a0 a1 a2) [zP a0, zI a1, zI a2] := by
  refine z_met hl (by decide +kernel) (by rw [zSl_len]; exact (Nat.le_of_ble_eq_true rfl)) fun p e R s m args below meth c k0 x hret hnm htab => ?_
  refine z_lv [(0, zP a0), (1, zI a1), (2, zI a2)] rfl ?_
  unfold s_X6_trueMany
  refine z_aload_n (pc := 0) x 0 dX6_trueMany_0 rfl rfl ?_
  refine z_call (pc := 1) (z_canV (pc := 1) (As := []) (st := []) x (ci := 34) rfl (fun b => m_X6_finds hl (some b)) q2923 q2925 (z_selP x (ci := 34) rfl (by decide) (zNi_inst x q2780) q2924 q2925) q121 q2926 n_X6_finds ⟨by decide, by decide⟩ (Nat.le_of_ble_eq_true rfl) dX6_trueMany_1) (zv_V ?_) (fun q => zx_thr x (fun z hz => (htab z hz).elim) q)
  refine z_iconst (pc := 4) x (v := (0 : Int32)) dX6_trueMany_4 rfl ?_
  refine z_istore_n (pc := 5) (lv' := [(3, zI (0 : Int32)), (0, zP a0), (1, zI a1), (2, zI a2)]) x dX6_trueMany_5 rfl (Nat.le_of_ble_eq_true rfl) rfl ?_
  refine z_iload_n (pc := 6) x 2 dX6_trueMany_6 rfl rfl ?_
  refine z_istore (pc := 7) (lv' := [(4, zI a1), (3, zI (0 : Int32)), (0, zP a0), (1, zI a1), (2, zI a2)]) x dX6_trueMany_7 (Nat.le_of_ble_eq_true rfl) rfl ?_
  exact z_sub [2, 4, 1, 0] rfl (w_X6_trueMany_9 x hl hret hnm htab zN a0 a2 (0 : Int32) a1)
/-! X6_trueCount -/
def s_X6_trueCount_13 (E : zE) (a0 : Option Nat) (a1 : Int32) (b0 : Option Nat) (b1 : Int32) : zM := zC (zRv b0 [(34, fun b => s_X6_isThrown E (some b) b1 (1 : Int32))]) zThr (zKI (fun v14 => if v14 = 0 then (zC (s_X6_begin E (a1 - (97 : Int32))) zThr (zKI (fun v29 => zC (s_X6_end E (a1 - (97 : Int32))) zThr (zKI (fun v36 => zC (zRv a0 [(34, fun b => s_X6_trueMany E (some b) v29 v36)]) zThr (zKI (fun v39 => zRet (some (.int v39))))))))) else (zRet (some (.int (0 : Int32))))))
theorem w_X6_trueCount_13 (x : zCx p l R s m args meth c E D tA cX6_trueCount 2 yX6_trueCount.cls 19) (hl : l.stackTraces = false) (hret : meth.sig.returnType = (Option.some Jvm.ClassFile.FieldType.int)) (hnm : meth.name = yX6_trueCount.name) (htab : ∀ z ∈ c.exceptionTable.toList, False) (a0 : Option Nat) (a1 : Int32) (b0 : Option Nat) (b1 : Int32) : zW p l e R s m args below meth c E D tA 2 k0 (s_X6_trueCount_13 E a0 a1 b0 b1) [(0, zP a0), (1, zI a1)] 13 [zI b1, zP b0] := by
  unfold s_X6_trueCount_13
  refine z_iconst (pc := 13) x (v := (1 : Int32)) dX6_trueCount_13 rfl ?_
  refine z_call (pc := 14) (z_canV (pc := 14) (As := [zI b1, zI (1 : Int32)]) (st := []) x (ci := 34) rfl (fun b => m_X6_isThrown hl (some b) b1 (1 : Int32)) q2898 q2900 (z_selP x (ci := 34) rfl (by decide) (zNi_inst x q2780) q2899 q2900) q121 q2901 n_X6_isThrown ⟨by decide, by decide⟩ (Nat.le_of_ble_eq_true rfl) dX6_trueCount_14) (zv_I fun v14 => ?_) (fun q => zx_thr x (fun z hz => (htab z hz).elim) q)
  refine z_if_eq (pc := 17) (tgt := 24) x dX6_trueCount_17 rfl (fun _ => ?_) (fun _ => ?_)
  · refine z_aload_n (pc := 24) x 0 dX6_trueCount_24 rfl rfl ?_
    refine z_iload_n (pc := 25) x 1 dX6_trueCount_25 rfl rfl ?_
    refine z_bipush (pc := 26) x (v := (97 : Int32)) dX6_trueCount_26 rfl ?_
    refine z_isub (pc := 28) x dX6_trueCount_28 ?_
    refine z_call (pc := 29) (z_canS (pc := 29) (As := [zI (a1 - (97 : Int32))]) (st := [zP a0]) x (m_X6_begin hl (a1 - (97 : Int32))) q3049 q3050 q121 q3051 n_X6_begin ⟨by decide, by decide⟩ (Nat.le_of_ble_eq_true rfl) dX6_trueCount_29) (zv_I fun v29 => ?_) (fun q => zx_thr x (fun z hz => (htab z hz).elim) q)
    refine z_iload_n (pc := 32) x 1 dX6_trueCount_32 rfl rfl ?_
    refine z_bipush (pc := 33) x (v := (97 : Int32)) dX6_trueCount_33 rfl ?_
    refine z_isub (pc := 35) x dX6_trueCount_35 ?_
    refine z_call (pc := 36) (z_canS (pc := 36) (As := [zI (a1 - (97 : Int32))]) (st := [zI v29, zP a0]) x (m_X6_end hl (a1 - (97 : Int32))) q3052 q3053 q121 q3054 n_X6_end ⟨by decide, by decide⟩ (Nat.le_of_ble_eq_true rfl) dX6_trueCount_36) (zv_I fun v36 => ?_) (fun q => zx_thr x (fun z hz => (htab z hz).elim) q)
    refine z_call (pc := 39) (z_canV (pc := 39) (As := [zI v29, zI v36]) (st := []) x (ci := 34) rfl (fun b => m_X6_trueMany hl (some b) v29 v36) q3055 q3057 (z_selP x (ci := 34) rfl (by decide) (zNi_inst x q2780) q3056 q3057) q121 q3058 n_X6_trueMany ⟨by decide, by decide⟩ (Nat.le_of_ble_eq_true rfl) dX6_trueCount_39) (zv_I fun v39 => ?_) (fun q => zx_thr x (fun z hz => (htab z hz).elim) q)
    exact z_iret (pc := 42) x hret dX6_trueCount_42
  · refine z_iconst (pc := 20) x (v := (0 : Int32)) dX6_trueCount_20 rfl ?_
    refine z_goto (pc := 21) (tgt := 42) x dX6_trueCount_21 rfl ?_
    exact z_iret (pc := 42) x hret dX6_trueCount_42
def s_X6_trueCount (E : zE) (a0 : Option Nat) (a1 : Int32) : zM := zC (s_X6_isPredicate E a1) zThr (zKI (fun v2 => if v2 = 0 then (s_X6_trueCount_13 E a0 a1 a0 (1 : Int32)) else (s_X6_trueCount_13 E a0 a1 a0 (0 : Int32))))
theorem m_X6_trueCount {l : Launch} {E : zE} {D : va_G} {tA : Nat → ClassId} (hl : l.stackTraces = false) (a0 : Option Nat) (a1 : Int32) : zMet l E D tA yX6_trueCount (ws_ yX6_trueCount cX6_trueCount 2 (Option.some Jvm.ClassFile.FieldType.int)) 19 (s_X6_trueCount E a0 a1) [zP a0, zI a1] := by
  refine z_met hl (by decide +kernel) (by rw [zSl_len]; exact (Nat.le_of_ble_eq_true rfl)) fun p e R s m args below meth c k0 x hret hnm htab => ?_
  refine z_lv [(0, zP a0), (1, zI a1)] rfl ?_
  unfold s_X6_trueCount
  refine z_aload_n (pc := 0) x 0 dX6_trueCount_0 rfl rfl ?_
  refine z_iload_n (pc := 1) x 1 dX6_trueCount_1 rfl rfl ?_
  refine z_call (pc := 2) (z_canS (pc := 2) (As := [zI a1]) (st := [zP a0]) x (m_X6_isPredicate hl a1) q2892 q2893 q121 q2894 n_X6_isPredicate ⟨by decide, by decide⟩ (Nat.le_of_ble_eq_true rfl) dX6_trueCount_2) (zv_I fun v2 => ?_) (fun q => zx_thr x (fun z hz => (htab z hz).elim) q)
  refine z_if_ne (pc := 5) (tgt := 12) x dX6_trueCount_5 rfl (fun _ => ?_) (fun _ => ?_)
  · refine z_iconst (pc := 8) x (v := (1 : Int32)) dX6_trueCount_8 rfl ?_
    refine z_goto (pc := 9) (tgt := 13) x dX6_trueCount_9 rfl ?_
    exact z_sub [0, 1] rfl (w_X6_trueCount_13 x hl hret hnm htab a0 a1 a0 (1 : Int32))
  · refine z_iconst (pc := 12) x (v := (0 : Int32)) dX6_trueCount_12 rfl ?_
    exact z_sub [0, 1] rfl (w_X6_trueCount_13 x hl hret hnm htab a0 a1 a0 (0 : Int32))
/-! X6_allTrue -/
def s_X6_allTrue (E : zE) (a0 : Option Nat) : zM := zSet E a0 34 13 (zVal (zI (0 : Int32))) (zC (zRv a0 [(34, fun b => s_X6_trueMany E (some b) (0 : Int32) (440 : Int32))]) zThr (zKI (fun v10 => zRet (some (.int v10)))))
theorem m_X6_allTrue {l : Launch} {E : zE} {D : va_G} {tA : Nat → ClassId} (hl : l.stackTraces = false) (a0 : Option Nat) : zMet l E D tA yX6_allTrue (ws_ yX6_allTrue cX6_allTrue 1 (Option.some Jvm.ClassFile.FieldType.int)) 19 (s_X6_allTrue E a0) [zP a0] := by
  refine z_met hl (by decide +kernel) (by rw [zSl_len]; exact (Nat.le_of_ble_eq_true rfl)) fun p e R s m args below meth c k0 x hret hnm htab => ?_
  refine z_lv [(0, zP a0)] rfl ?_
  unfold s_X6_allTrue
  refine z_aload_n (pc := 0) x 0 dX6_allTrue_0 rfl rfl ?_
  refine z_iconst (pc := 1) x (v := (0 : Int32)) dX6_allTrue_1 rfl ?_
  refine z_set (pc := 2) (v := zI (0 : Int32)) x in_X6 tyX6 tyX6_ok nmX6 (ci := 34) rfl (k := 13) (by decide) q2798 (fun _ h => h) rfl rfl rfl dX6_allTrue_2 ?_
  refine z_aload_n (pc := 5) x 0 dX6_allTrue_5 rfl rfl ?_
  refine z_iconst (pc := 6) x (v := (0 : Int32)) dX6_allTrue_6 rfl ?_
  refine z_sipush (pc := 7) x (v := (440 : Int32)) dX6_allTrue_7 rfl ?_
  refine z_call (pc := 10) (z_canV (pc := 10) (As := [zI (0 : Int32), zI (440 : Int32)]) (st := []) x (ci := 34) rfl (fun b => m_X6_trueMany hl (some b) (0 : Int32) (440 : Int32)) q3055 q3057 (z_selP x (ci := 34) rfl (by decide) (zNi_inst x q2780) q3056 q3057) q121 q3058 n_X6_trueMany ⟨by decide, by decide⟩ (Nat.le_of_ble_eq_true rfl) dX6_allTrue_10) (zv_I fun v10 => ?_) (fun q => zx_thr x (fun z hz => (htab z hz).elim) q)
  exact z_iret (pc := 13) x hret dX6_allTrue_13
/-! X6_gainedWithout -/
def s_X6_gainedWithout (E : zE) (a0 : Option Nat) (a1 : Int32) (a2 : Int32) (a3 : Int32) : zM := zC (zRv a0 [(34, fun b => s_X6_isNotGiven E (some b) a1 a2 a3)]) zThr (zKI (fun v4 => if v4 = 0 then (zC (zRv a0 [(34, fun b => s_X6_remembers E (some b))]) zThr (zKV (zC (s_X6_factOf E a1 a2 a3) zThr (zKI (fun v20 => zGetR a0 34 0 (fun v27 => zSaI E 0 v27 ((4 : Int32) + v20) (0 : Int32) (zC (zRv a0 [(34, fun b => s_X6_unlike E (some b) (0 : Int32))]) zThr (zKI (fun v36 => zGetR a0 34 0 (fun v42 => zSaI E 0 v42 ((4 : Int32) + v20) (1 : Int32) (zRet (some (.int v36))))))))))))) else (zRet (some (.int (0 : Int32))))))
theorem m_X6_gainedWithout {l : Launch} {E : zE} {D : va_G} {tA : Nat → ClassId} (hl : l.stackTraces = false) (a0 : Option Nat) (a1 : Int32) (a2 : Int32) (a3 : Int32) : zMet l E D tA yX6_gainedWithout (ws_ yX6_gainedWithout cX6_gainedWithout 6 (Option.some Jvm.ClassFile.FieldType.int)) 19 (s_X6_gainedWithout E a0 a1 a2 a3) [zP a0, zI a1, zI a2, zI a3] := by
  refine z_met hl (by decide +kernel) (by rw [zSl_len]; exact (Nat.le_of_ble_eq_true rfl)) fun p e R s m args below meth c k0 x hret hnm htab => ?_
  refine z_lv [(0, zP a0), (1, zI a1), (2, zI a2), (3, zI a3)] rfl ?_
  unfold s_X6_gainedWithout
  refine z_aload_n (pc := 0) x 0 dX6_gainedWithout_0 rfl rfl ?_
  refine z_iload_n (pc := 1) x 1 dX6_gainedWithout_1 rfl rfl ?_
  refine z_iload_n (pc := 2) x 2 dX6_gainedWithout_2 rfl rfl ?_
  refine z_iload_n (pc := 3) x 3 dX6_gainedWithout_3 rfl rfl ?_
  refine z_call (pc := 4) (z_canV (pc := 4) (As := [zI a1, zI a2, zI a3]) (st := []) x (ci := 34) rfl (fun b => m_X6_isNotGiven hl (some b) a1 a2 a3) q3008 q3010 (z_selP x (ci := 34) rfl (by decide) (zNi_inst x q2780) q3009 q3010) q121 q3011 n_X6_isNotGiven ⟨by decide, by decide⟩ (Nat.le_of_ble_eq_true rfl) dX6_gainedWithout_4) (zv_I fun v4 => ?_) (fun q => zx_thr x (fun z hz => (htab z hz).elim) q)
  refine z_if_eq (pc := 7) (tgt := 12) x dX6_gainedWithout_7 rfl (fun _ => ?_) (fun _ => ?_)
  · refine z_aload_n (pc := 12) x 0 dX6_gainedWithout_12 rfl rfl ?_
    refine z_call (pc := 13) (z_canV (pc := 13) (As := []) (st := []) x (ci := 34) rfl (fun b => m_X6_remembers hl (some b)) q2919 q2921 (z_selP x (ci := 34) rfl (by decide) (zNi_inst x q2780) q2920 q2921) q121 q2922 n_X6_remembers ⟨by decide, by decide⟩ (Nat.le_of_ble_eq_true rfl) dX6_gainedWithout_13) (zv_V ?_) (fun q => zx_thr x (fun z hz => (htab z hz).elim) q)
    refine z_iconst (pc := 16) x (v := (4 : Int32)) dX6_gainedWithout_16 rfl ?_
    refine z_iload_n (pc := 17) x 1 dX6_gainedWithout_17 rfl rfl ?_
    refine z_iload_n (pc := 18) x 2 dX6_gainedWithout_18 rfl rfl ?_
    refine z_iload_n (pc := 19) x 3 dX6_gainedWithout_19 rfl rfl ?_
    refine z_call (pc := 20) (z_canS (pc := 20) (As := [zI a1, zI a2, zI a3]) (st := [zI (4 : Int32)]) x (m_X6_factOf hl a1 a2 a3) q2902 q2903 q121 q2904 n_X6_factOf ⟨by decide, by decide⟩ (Nat.le_of_ble_eq_true rfl) dX6_gainedWithout_20) (zv_I fun v20 => ?_) (fun q => zx_thr x (fun z hz => (htab z hz).elim) q)
    refine z_iadd (pc := 23) x dX6_gainedWithout_23 ?_
    refine z_istore (pc := 24) (lv' := [(4, zI ((4 : Int32) + v20)), (0, zP a0), (1, zI a1), (2, zI a2), (3, zI a3)]) x dX6_gainedWithout_24 (Nat.le_of_ble_eq_true rfl) rfl ?_
    refine z_aload_n (pc := 26) x 1 dX6_gainedWithout_26 rfl rfl ?_
    refine z_get (pc := 27) (fun _ _ h => zAsR_eq h) x in_X6 (ci := 34) rfl (k := 0) (by decide) q2785 (fun _ h => h) dX6_gainedWithout_27 fun v27 => ?_
    refine z_iload (pc := 30) x 0 dX6_gainedWithout_30 rfl ?_
    refine z_iconst (pc := 32) x (v := (0 : Int32)) dX6_gainedWithout_32 rfl ?_
    refine z_iast (pc := 33) x (t := 0) rfl dX6_gainedWithout_33 ?_
    refine z_aload_n (pc := 34) x 1 dX6_gainedWithout_34 rfl rfl ?_
    refine z_iconst (pc := 35) x (v := (0 : Int32)) dX6_gainedWithout_35 rfl ?_
    refine z_call (pc := 36) (z_canV (pc := 36) (As := [zI (0 : Int32)]) (st := []) x (ci := 34) rfl (fun b => m_X6_unlike hl (some b) (0 : Int32)) q3012 q3014 (z_selP x (ci := 34) rfl (by decide) (zNi_inst x q2780) q3013 q3014) q121 q3015 n_X6_unlike ⟨by decide, by decide⟩ (Nat.le_of_ble_eq_true rfl) dX6_gainedWithout_36) (zv_I fun v36 => ?_) (fun q => zx_thr x (fun z hz => (htab z hz).elim) q)
    refine z_istore (pc := 39) (lv' := [(5, zI v36), (4, zI ((4 : Int32) + v20)), (0, zP a0), (1, zI a1), (2, zI a2), (3, zI a3)]) x dX6_gainedWithout_39 (Nat.le_of_ble_eq_true rfl) rfl ?_
    refine z_aload_n (pc := 41) x 2 dX6_gainedWithout_41 rfl rfl ?_
    refine z_get (pc := 42) (fun _ _ h => zAsR_eq h) x in_X6 (ci := 34) rfl (k := 0) (by decide) q2785 (fun _ h => h) dX6_gainedWithout_42 fun v42 => ?_
    refine z_iload (pc := 45) x 1 dX6_gainedWithout_45 rfl ?_
    refine z_iconst (pc := 47) x (v := (1 : Int32)) dX6_gainedWithout_47 rfl ?_
    refine z_iast (pc := 48) x (t := 0) rfl dX6_gainedWithout_48 ?_
    refine z_iload (pc := 49) x 0 dX6_gainedWithout_49 rfl ?_
    exact z_iret (pc := 51) x hret dX6_gainedWithout_51
  · refine z_iconst (pc := 10) x (v := (0 : Int32)) dX6_gainedWithout_10 rfl ?_
    exact z_iret (pc := 11) x hret dX6_gainedWithout_11
/-! X6_trueWith -/
def s_X6_trueWith (E : zE) (a0 : Option Nat) (a1 : Int32) (a2 : Int32) : zM := zC (s_X6_isPair E a1) zThr (zKI (fun v1 => if v1 = 0 then (zC (s_X6_fact E a1 a2 (-1 : Int32)) zThr (zKI (fun v39 => zC (s_X6_fact E a1 a2 (-1 : Int32)) zThr (zKI (fun v45 => zC (zRv a0 [(34, fun b => s_X6_trueMany E (some b) v39 (v45 + (1 : Int32)))]) zThr (zKI (fun v50 => zRet (some (.int v50))))))))) else (zC (zRv a0 [(34, fun b => s_X6_trueMany E (some b) (((100 : Int32) * a1) + ((10 : Int32) * a2)) ((((100 : Int32) * a1) + ((10 : Int32) * a2)) + (10 : Int32)))]) zThr (zKI (fun v29 => zRet (some (.int v29)))))))
theorem m_X6_trueWith {l : Launch} {E : zE} {D : va_G} {tA : Nat → ClassId} (hl : l.stackTraces = false) (a0 : Option Nat) (a1 : Int32) (a2 : Int32) : zMet l E D tA yX6_trueWith (ws_ yX6_trueWith cX6_trueWith 3 (Option.some Jvm.ClassFile.FieldType.int)) 19 (s_X6_trueWith E a0 a1 a2) [zP a0, zI a1, zI a2] := by
  refine z_met hl (by decide +kernel) (by rw [zSl_len]; exact (Nat.le_of_ble_eq_true rfl)) fun p e R s m args below meth c k0 x hret hnm htab => ?_
  refine z_lv [(0, zP a0), (1, zI a1), (2, zI a2)] rfl ?_
  unfold s_X6_trueWith
  refine z_iload_n (pc := 0) x 1 dX6_trueWith_0 rfl rfl ?_
  refine z_call (pc := 1) (z_canS (pc := 1) (As := [zI a1]) (st := []) x (m_X6_isPair hl a1) q2908 q2909 q121 q2910 n_X6_isPair ⟨by decide, by decide⟩ (Nat.le_of_ble_eq_true rfl) dX6_trueWith_1) (zv_I fun v1 => ?_) (fun q => zx_thr x (fun z hz => (htab z hz).elim) q)
  refine z_if_eq (pc := 4) (tgt := 35) x dX6_trueWith_4 rfl (fun _ => ?_) (fun _ => ?_)
  · refine z_aload_n (pc := 35) x 0 dX6_trueWith_35 rfl rfl ?_
    refine z_iload_n (pc := 36) x 1 dX6_trueWith_36 rfl rfl ?_
    refine z_iload_n (pc := 37) x 2 dX6_trueWith_37 rfl rfl ?_
    refine z_iconst (pc := 38) x (v := (-1 : Int32)) dX6_trueWith_38 rfl ?_
    refine z_call (pc := 39) (z_canS (pc := 39) (As := [zI a1, zI a2, zI (-1 : Int32)]) (st := [zP a0]) x (m_X6_fact hl a1 a2 (-1 : Int32)) q2905 q2906 q121 q2907 n_X6_fact ⟨by decide, by decide⟩ (Nat.le_of_ble_eq_true rfl) dX6_trueWith_39) (zv_I fun v39 => ?_) (fun q => zx_thr x (fun z hz => (htab z hz).elim) q)
    refine z_iload_n (pc := 42) x 1 dX6_trueWith_42 rfl rfl ?_
    refine z_iload_n (pc := 43) x 2 dX6_trueWith_43 rfl rfl ?_
    refine z_iconst (pc := 44) x (v := (-1 : Int32)) dX6_trueWith_44 rfl ?_
    refine z_call (pc := 45) (z_canS (pc := 45) (As := [zI a1, zI a2, zI (-1 : Int32)]) (st := [zI v39, zP a0]) x (m_X6_fact hl a1 a2 (-1 : Int32)) q2905 q2906 q121 q2907 n_X6_fact ⟨by decide, by decide⟩ (Nat.le_of_ble_eq_true rfl) dX6_trueWith_45) (zv_I fun v45 => ?_) (fun q => zx_thr x (fun z hz => (htab z hz).elim) q)
    refine z_iconst (pc := 48) x (v := (1 : Int32)) dX6_trueWith_48 rfl ?_
    refine z_iadd (pc := 49) x dX6_trueWith_49 ?_
    refine z_call (pc := 50) (z_canV (pc := 50) (As := [zI v39, zI (v45 + (1 : Int32))]) (st := []) x (ci := 34) rfl (fun b => m_X6_trueMany hl (some b) v39 (v45 + (1 : Int32))) q3055 q3057 (z_selP x (ci := 34) rfl (by decide) (zNi_inst x q2780) q3056 q3057) q121 q3058 n_X6_trueMany ⟨by decide, by decide⟩ (Nat.le_of_ble_eq_true rfl) dX6_trueWith_50) (zv_I fun v50 => ?_) (fun q => zx_thr x (fun z hz => (htab z hz).elim) q)
    exact z_iret (pc := 53) x hret dX6_trueWith_53
  · refine z_aload_n (pc := 7) x 0 dX6_trueWith_7 rfl rfl ?_
    refine z_bipush (pc := 8) x (v := (100 : Int32)) dX6_trueWith_8 rfl ?_
    refine z_iload_n (pc := 10) x 1 dX6_trueWith_10 rfl rfl ?_
    refine z_imul (pc := 11) x dX6_trueWith_11 ?_
    refine z_bipush (pc := 12) x (v := (10 : Int32)) dX6_trueWith_12 rfl ?_
    refine z_iload_n (pc := 14) x 2 dX6_trueWith_14 rfl rfl ?_
    refine z_imul (pc := 15) x dX6_trueWith_15 ?_
    refine z_iadd (pc := 16) x dX6_trueWith_16 ?_
    refine z_bipush (pc := 17) x (v := (100 : Int32)) dX6_trueWith_17 rfl ?_
    refine z_iload_n (pc := 19) x 1 dX6_trueWith_19 rfl rfl ?_
    refine z_imul (pc := 20) x dX6_trueWith_20 ?_
    refine z_bipush (pc := 21) x (v := (10 : Int32)) dX6_trueWith_21 rfl ?_
    refine z_iload_n (pc := 23) x 2 dX6_trueWith_23 rfl rfl ?_
    refine z_imul (pc := 24) x dX6_trueWith_24 ?_
    refine z_iadd (pc := 25) x dX6_trueWith_25 ?_
    refine z_bipush (pc := 26) x (v := (10 : Int32)) dX6_trueWith_26 rfl ?_
    refine z_iadd (pc := 28) x dX6_trueWith_28 ?_
    refine z_call (pc := 29) (z_canV (pc := 29) (As := [zI (((100 : Int32) * a1) + ((10 : Int32) * a2)), zI ((((100 : Int32) * a1) + ((10 : Int32) * a2)) + (10 : Int32))]) (st := []) x (ci := 34) rfl (fun b => m_X6_trueMany hl (some b) (((100 : Int32) * a1) + ((10 : Int32) * a2)) ((((100 : Int32) * a1) + ((10 : Int32) * a2)) + (10 : Int32))) q3055 q3057 (z_selP x (ci := 34) rfl (by decide) (zNi_inst x q2780) q3056 q3057) q121 q3058 n_X6_trueMany ⟨by decide, by decide⟩ (Nat.le_of_ble_eq_true rfl) dX6_trueWith_29) (zv_I fun v29 => ?_) (fun q => zx_thr x (fun z hz => (htab z hz).elim) q)
    refine z_goto (pc := 32) (tgt := 53) x dX6_trueWith_32 rfl ?_
    exact z_iret (pc := 53) x hret dX6_trueWith_53
/-! X6_constantAtRank -/
def s_X6_constantAtRank_88 (E : zE) (k24 : Option Nat → Int32 → Int32 → Int32 → zM) (k36 : Option Nat → Int32 → Int32 → Int32 → Int32 → Int32 → zM) (a0 : Option Nat) (a1 : Int32) (a2 : Int32) (a3 : Int32) (a5 : Int32) (b0 : Int32) (b1 : Int32) : zM := k36 a0 a1 a2 a3 (b0 + b1) (a5 + (1 : Int32))
theorem w_X6_constantAtRank_88 (x : zCx p l R s m args meth c E D tA cX6_constantAtRank 7 yX6_constantAtRank.cls 20) (hl : l.stackTraces = false) (hret : meth.sig.returnType = (Option.some Jvm.ClassFile.FieldType.int)) (hnm : meth.name = yX6_constantAtRank.name) (htab : ∀ z ∈ c.exceptionTable.toList, False) {k24 : Option Nat → Int32 → Int32 → Int32 → zM} (h24 : ∀ (a0 : Option Nat) (a1 : Int32) (a2 : Int32) (a3 : Int32) , zW p l e R s m args below meth c E D tA 7 k0 (k24 a0 a1 a2 a3) [(0, zP a0), (1, zI a1), (2, zI a2), (3, zI a3)] 24 []) {k36 : Option Nat → Int32 → Int32 → Int32 → Int32 → Int32 → zM} (h36 : ∀ (a0 : Option Nat) (a1 : Int32) (a2 : Int32) (a3 : Int32) (a4 : Int32) (a5 : Int32) , zW p l e R s m args below meth c E D tA 7 k0 (k36 a0 a1 a2 a3 a4 a5) [(0, zP a0), (1, zI a1), (2, zI a2), (3, zI a3), (4, zI a4), (5, zI a5)] 36 []) (a0 : Option Nat) (a1 : Int32) (a2 : Int32) (a3 : Int32) (a5 : Int32) (b0 : Int32) (b1 : Int32) : zW p l e R s m args below meth c E D tA 7 k0 (s_X6_constantAtRank_88 E k24 k36 a0 a1 a2 a3 a5 b0 b1) [(0, zP a0), (1, zI a1), (2, zI a2), (3, zI a3), (5, zI a5)] 88 [zI b1, zI b0] := by
  unfold s_X6_constantAtRank_88
  refine z_iadd (pc := 88) x dX6_constantAtRank_88 ?_
  refine z_istore (pc := 89) (lv' := [(4, zI (b0 + b1)), (0, zP a0), (1, zI a1), (2, zI a2), (3, zI a3), (5, zI a5)]) x dX6_constantAtRank_89 (Nat.le_of_ble_eq_true rfl) rfl ?_
  refine z_iinc (pc := 91) (lv' := [(5, zI (a5 + (1 : Int32))), (4, zI (b0 + b1)), (0, zP a0), (1, zI a1), (2, zI a2), (3, zI a3)]) x (v2 := (a5 + (1 : Int32))) 5 dX6_constantAtRank_91 rfl rfl (Nat.le_of_ble_eq_true rfl) rfl ?_
  refine z_goto (pc := 94) (tgt := 36) x dX6_constantAtRank_94 rfl ?_
  exact z_sub [2, 3, 4, 5, 1, 0] rfl (h36 a0 a1 a2 a3 (b0 + b1) (a5 + (1 : Int32)))
def s_X6_constantAtRank_83 (E : zE) (k24 : Option Nat → Int32 → Int32 → Int32 → zM) (k36 : Option Nat → Int32 → Int32 → Int32 → Int32 → Int32 → zM) (a0 : Option Nat) (a1 : Int32) (a2 : Int32) (a3 : Int32) (a5 : Int32) (b0 : Int32) : zM := s_X6_constantAtRank_88 E k24 k36 a0 a1 a2 a3 a5 b0 (1 : Int32)
theorem w_X6_constantAtRank_83 (x : zCx p l R s m args meth c E D tA cX6_constantAtRank 7 yX6_constantAtRank.cls 20) (hl : l.stackTraces = false) (hret : meth.sig.returnType = (Option.some Jvm.ClassFile.FieldType.int)) (hnm : meth.name = yX6_constantAtRank.name) (htab : ∀ z ∈ c.exceptionTable.toList, False) {k24 : Option Nat → Int32 → Int32 → Int32 → zM} (h24 : ∀ (a0 : Option Nat) (a1 : Int32) (a2 : Int32) (a3 : Int32) , zW p l e R s m args below meth c E D tA 7 k0 (k24 a0 a1 a2 a3) [(0, zP a0), (1, zI a1), (2, zI a2), (3, zI a3)] 24 []) {k36 : Option Nat → Int32 → Int32 → Int32 → Int32 → Int32 → zM} (h36 : ∀ (a0 : Option Nat) (a1 : Int32) (a2 : Int32) (a3 : Int32) (a4 : Int32) (a5 : Int32) , zW p l e R s m args below meth c E D tA 7 k0 (k36 a0 a1 a2 a3 a4 a5) [(0, zP a0), (1, zI a1), (2, zI a2), (3, zI a3), (4, zI a4), (5, zI a5)] 36 []) (a0 : Option Nat) (a1 : Int32) (a2 : Int32) (a3 : Int32) (a5 : Int32) (b0 : Int32) : zW p l e R s m args below meth c E D tA 7 k0 (s_X6_constantAtRank_83 E k24 k36 a0 a1 a2 a3 a5 b0) [(0, zP a0), (1, zI a1), (2, zI a2), (3, zI a3), (5, zI a5)] 83 [zI b0] := by
  unfold s_X6_constantAtRank_83
  refine z_iconst (pc := 83) x (v := (1 : Int32)) dX6_constantAtRank_83 rfl ?_
  refine z_goto (pc := 84) (tgt := 88) x dX6_constantAtRank_84 rfl ?_
  exact z_sub [0, 1, 2, 3, 4] rfl (w_X6_constantAtRank_88 x hl hret hnm htab h24 h36 a0 a1 a2 a3 a5 b0 (1 : Int32))
def s_X6_constantAtRank_87 (E : zE) (k24 : Option Nat → Int32 → Int32 → Int32 → zM) (k36 : Option Nat → Int32 → Int32 → Int32 → Int32 → Int32 → zM) (a0 : Option Nat) (a1 : Int32) (a2 : Int32) (a3 : Int32) (a5 : Int32) (b0 : Int32) : zM := s_X6_constantAtRank_88 E k24 k36 a0 a1 a2 a3 a5 b0 (0 : Int32)
theorem w_X6_constantAtRank_87 (x : zCx p l R s m args meth c E D tA cX6_constantAtRank 7 yX6_constantAtRank.cls 20) (hl : l.stackTraces = false) (hret : meth.sig.returnType = (Option.some Jvm.ClassFile.FieldType.int)) (hnm : meth.name = yX6_constantAtRank.name) (htab : ∀ z ∈ c.exceptionTable.toList, False) {k24 : Option Nat → Int32 → Int32 → Int32 → zM} (h24 : ∀ (a0 : Option Nat) (a1 : Int32) (a2 : Int32) (a3 : Int32) , zW p l e R s m args below meth c E D tA 7 k0 (k24 a0 a1 a2 a3) [(0, zP a0), (1, zI a1), (2, zI a2), (3, zI a3)] 24 []) {k36 : Option Nat → Int32 → Int32 → Int32 → Int32 → Int32 → zM} (h36 : ∀ (a0 : Option Nat) (a1 : Int32) (a2 : Int32) (a3 : Int32) (a4 : Int32) (a5 : Int32) , zW p l e R s m args below meth c E D tA 7 k0 (k36 a0 a1 a2 a3 a4 a5) [(0, zP a0), (1, zI a1), (2, zI a2), (3, zI a3), (4, zI a4), (5, zI a5)] 36 []) (a0 : Option Nat) (a1 : Int32) (a2 : Int32) (a3 : Int32) (a5 : Int32) (b0 : Int32) : zW p l e R s m args below meth c E D tA 7 k0 (s_X6_constantAtRank_87 E k24 k36 a0 a1 a2 a3 a5 b0) [(0, zP a0), (1, zI a1), (2, zI a2), (3, zI a3), (5, zI a5)] 87 [zI b0] := by
  unfold s_X6_constantAtRank_87
  refine z_iconst (pc := 87) x (v := (0 : Int32)) dX6_constantAtRank_87 rfl ?_
  exact z_sub [0, 1, 2, 3, 4] rfl (w_X6_constantAtRank_88 x hl hret hnm htab h24 h36 a0 a1 a2 a3 a5 b0 (0 : Int32))
def s_X6_constantAtRank_36 (E : zE) (k24 : Option Nat → Int32 → Int32 → Int32 → zM) : Nat → Option Nat → Int32 → Int32 → Int32 → Int32 → Int32 → zM
  | 0, _, _, _, _, _, _ => zFail
  | n + 1, a0, a1, a2, a3, a4, a5 => if (10 : Int32) ≤ a5 then (if a4 = a2 then (zRet (some (.int a3))) else (k24 a0 a1 a2 (a3 + (1 : Int32)))) else (zC (zRv a0 [(34, fun b => s_X6_trueWith E (some b) (a1 - (97 : Int32)) a5)]) zThr (zKI (fun v50 => zC (zRv a0 [(34, fun b => s_X6_trueWith E (some b) (a1 - (97 : Int32)) a3)]) zThr (zKI (fun v59 => if 0 < (v50 - v59) then (s_X6_constantAtRank_83 E k24 (s_X6_constantAtRank_36 E k24 n) a0 a1 a2 a3 a5 a4) else (if (v50 - v59) = 0 then (if a3 ≤ a5 then (s_X6_constantAtRank_87 E k24 (s_X6_constantAtRank_36 E k24 n) a0 a1 a2 a3 a5 a4) else (s_X6_constantAtRank_83 E k24 (s_X6_constantAtRank_36 E k24 n) a0 a1 a2 a3 a5 a4)) else (s_X6_constantAtRank_87 E k24 (s_X6_constantAtRank_36 E k24 n) a0 a1 a2 a3 a5 a4)))))))
theorem w_X6_constantAtRank_36 (x : zCx p l R s m args meth c E D tA cX6_constantAtRank 7 yX6_constantAtRank.cls 20) (hl : l.stackTraces = false) (hret : meth.sig.returnType = (Option.some Jvm.ClassFile.FieldType.int)) (hnm : meth.name = yX6_constantAtRank.name) (htab : ∀ z ∈ c.exceptionTable.toList, False) {k24 : Option Nat → Int32 → Int32 → Int32 → zM} (h24 : ∀ (a0 : Option Nat) (a1 : Int32) (a2 : Int32) (a3 : Int32) , zW p l e R s m args below meth c E D tA 7 k0 (k24 a0 a1 a2 a3) [(0, zP a0), (1, zI a1), (2, zI a2), (3, zI a3)] 24 []) : ∀ (n : Nat) (a0 : Option Nat) (a1 : Int32) (a2 : Int32) (a3 : Int32) (a4 : Int32) (a5 : Int32), zW p l e R s m args below meth c E D tA 7 k0 (s_X6_constantAtRank_36 E k24 n a0 a1 a2 a3 a4 a5) [(0, zP a0), (1, zI a1), (2, zI a2), (3, zI a3), (4, zI a4), (5, zI a5)] 36 [] := by
  intro n
  induction n with
  | zero => intro a0 a1 a2 a3 a4 a5; exact z_fail
  | succ n h36 =>
    intro a0 a1 a2 a3 a4 a5
    rw [s_X6_constantAtRank_36]
    refine z_iload (pc := 36) x 5 dX6_constantAtRank_36 rfl ?_
    refine z_bipush (pc := 38) x (v := (10 : Int32)) dX6_constantAtRank_38 rfl ?_
    refine z_icmp_ge (pc := 40) (tgt := 97) x dX6_constantAtRank_40 rfl (fun _ => ?_) (fun _ => ?_)
    · refine z_iload (pc := 97) x 4 dX6_constantAtRank_97 rfl ?_
      refine z_iload_n (pc := 99) x 2 dX6_constantAtRank_99 rfl rfl ?_
      refine z_icmp_ne (pc := 100) (tgt := 105) x dX6_constantAtRank_100 rfl (fun _ => ?_) (fun _ => ?_)
      · refine z_iload_n (pc := 103) x 3 dX6_constantAtRank_103 rfl rfl ?_
        exact z_iret (pc := 104) x hret dX6_constantAtRank_104
      · refine z_iinc (pc := 105) (lv' := [(3, zI (a3 + (1 : Int32))), (0, zP a0), (1, zI a1), (2, zI a2), (4, zI a4), (5, zI a5)]) x (v2 := (a3 + (1 : Int32))) 3 dX6_constantAtRank_105 rfl rfl (Nat.le_of_ble_eq_true rfl) rfl ?_
        refine z_goto (pc := 108) (tgt := 24) x dX6_constantAtRank_108 rfl ?_
        exact z_sub [1, 2, 3, 0] rfl (h24 a0 a1 a2 (a3 + (1 : Int32)))
    · refine z_aload_n (pc := 43) x 0 dX6_constantAtRank_43 rfl rfl ?_
      refine z_iload_n (pc := 44) x 1 dX6_constantAtRank_44 rfl rfl ?_
      refine z_bipush (pc := 45) x (v := (97 : Int32)) dX6_constantAtRank_45 rfl ?_
      refine z_isub (pc := 47) x dX6_constantAtRank_47 ?_
      refine z_iload (pc := 48) x 5 dX6_constantAtRank_48 rfl ?_
      refine z_call (pc := 50) (z_canV (pc := 50) (As := [zI (a1 - (97 : Int32)), zI a5]) (st := []) x (ci := 34) rfl (fun b => m_X6_trueWith hl (some b) (a1 - (97 : Int32)) a5) q3071 q3073 (z_selP x (ci := 34) rfl (by decide) (zNi_inst x q2780) q3072 q3073) q121 q3074 n_X6_trueWith ⟨by decide, by decide⟩ (Nat.le_of_ble_eq_true rfl) dX6_constantAtRank_50) (zv_I fun v50 => ?_) (fun q => zx_thr x (fun z hz => (htab z hz).elim) q)
      refine z_aload_n (pc := 53) x 0 dX6_constantAtRank_53 rfl rfl ?_
      refine z_iload_n (pc := 54) x 1 dX6_constantAtRank_54 rfl rfl ?_
      refine z_bipush (pc := 55) x (v := (97 : Int32)) dX6_constantAtRank_55 rfl ?_
      refine z_isub (pc := 57) x dX6_constantAtRank_57 ?_
      refine z_iload_n (pc := 58) x 3 dX6_constantAtRank_58 rfl rfl ?_
      refine z_call (pc := 59) (z_canV (pc := 59) (As := [zI (a1 - (97 : Int32)), zI a3]) (st := [zI v50]) x (ci := 34) rfl (fun b => m_X6_trueWith hl (some b) (a1 - (97 : Int32)) a3) q3071 q3073 (z_selP x (ci := 34) rfl (by decide) (zNi_inst x q2780) q3072 q3073) q121 q3074 n_X6_trueWith ⟨by decide, by decide⟩ (Nat.le_of_ble_eq_true rfl) dX6_constantAtRank_59) (zv_I fun v59 => ?_) (fun q => zx_thr x (fun z hz => (htab z hz).elim) q)
      refine z_isub (pc := 62) x dX6_constantAtRank_62 ?_
      refine z_istore (pc := 63) (lv' := [(6, zI (v50 - v59)), (0, zP a0), (1, zI a1), (2, zI a2), (3, zI a3), (4, zI a4), (5, zI a5)]) x dX6_constantAtRank_63 (Nat.le_of_ble_eq_true rfl) rfl ?_
      refine z_iload (pc := 65) x 5 dX6_constantAtRank_65 rfl ?_
      refine z_iload (pc := 67) x 0 dX6_constantAtRank_67 rfl ?_
      refine z_if_gt (pc := 69) (tgt := 83) x dX6_constantAtRank_69 rfl (fun _ => ?_) (fun _ => ?_)
      · exact z_sub [1, 2, 3, 4, 6] rfl (w_X6_constantAtRank_83 x hl hret hnm htab h24 h36 a0 a1 a2 a3 a5 a4)
      · refine z_iload (pc := 72) x 0 dX6_constantAtRank_72 rfl ?_
        refine z_if_ne (pc := 74) (tgt := 87) x dX6_constantAtRank_74 rfl (fun _ => ?_) (fun _ => ?_)
        · refine z_iload (pc := 77) x 6 dX6_constantAtRank_77 rfl ?_
          refine z_iload_n (pc := 79) x 4 dX6_constantAtRank_79 rfl rfl ?_
          refine z_icmp_ge (pc := 80) (tgt := 87) x dX6_constantAtRank_80 rfl (fun _ => ?_) (fun _ => ?_)
          · exact z_sub [1, 2, 3, 4, 6] rfl (w_X6_constantAtRank_87 x hl hret hnm htab h24 h36 a0 a1 a2 a3 a5 a4)
          · exact z_sub [1, 2, 3, 4, 6] rfl (w_X6_constantAtRank_83 x hl hret hnm htab h24 h36 a0 a1 a2 a3 a5 a4)
        · exact z_sub [1, 2, 3, 4, 6] rfl (w_X6_constantAtRank_87 x hl hret hnm htab h24 h36 a0 a1 a2 a3 a5 a4)
def s_X6_constantAtRank_24 (E : zE) : Nat → Option Nat → Int32 → Int32 → Int32 → zM
  | 0, _, _, _, _ => zFail
  | n + 1, a0, a1, a2, a3 => if (10 : Int32) ≤ a3 then (zSet E a0 34 13 (zVal (zI (2 : Int32))) (zRet (some (.int (0 : Int32))))) else (s_X6_constantAtRank_36 E (s_X6_constantAtRank_24 E n) zN a0 a1 a2 a3 (0 : Int32) (0 : Int32))
theorem w_X6_constantAtRank_24 (x : zCx p l R s m args meth c E D tA cX6_constantAtRank 7 yX6_constantAtRank.cls 20) (hl : l.stackTraces = false) (hret : meth.sig.returnType = (Option.some Jvm.ClassFile.FieldType.int)) (hnm : meth.name = yX6_constantAtRank.name) (htab : ∀ z ∈ c.exceptionTable.toList, False) : ∀ (n : Nat) (a0 : Option Nat) (a1 : Int32) (a2 : Int32) (a3 : Int32), zW p l e R s m args below meth c E D tA 7 k0 (s_X6_constantAtRank_24 E n a0 a1 a2 a3) [(0, zP a0), (1, zI a1), (2, zI a2), (3, zI a3)] 24 [] := by
  intro n
  induction n with
  | zero => intro a0 a1 a2 a3; exact z_fail
  | succ n h24 =>
    intro a0 a1 a2 a3
    rw [s_X6_constantAtRank_24]
    refine z_iload_n (pc := 24) x 3 dX6_constantAtRank_24 rfl rfl ?_
    refine z_bipush (pc := 25) x (v := (10 : Int32)) dX6_constantAtRank_25 rfl ?_
    refine z_icmp_ge (pc := 27) (tgt := 111) x dX6_constantAtRank_27 rfl (fun _ => ?_) (fun _ => ?_)
    · refine z_aload_n (pc := 111) x 0 dX6_constantAtRank_111 rfl rfl ?_
      refine z_iconst (pc := 112) x (v := (2 : Int32)) dX6_constantAtRank_112 rfl ?_
      refine z_set (pc := 113) (v := zI (2 : Int32)) x in_X6 tyX6 tyX6_ok nmX6 (ci := 34) rfl (k := 13) (by decide) q2798 (fun _ h => h) rfl rfl rfl dX6_constantAtRank_113 ?_
      refine z_iconst (pc := 116) x (v := (0 : Int32)) dX6_constantAtRank_116 rfl ?_
      exact z_iret (pc := 117) x hret dX6_constantAtRank_117
    · refine z_iconst (pc := 30) x (v := (0 : Int32)) dX6_constantAtRank_30 rfl ?_
      refine z_istore (pc := 31) (lv' := [(4, zI (0 : Int32)), (0, zP a0), (1, zI a1), (2, zI a2), (3, zI a3)]) x dX6_constantAtRank_31 (Nat.le_of_ble_eq_true rfl) rfl ?_
      refine z_iconst (pc := 33) x (v := (0 : Int32)) dX6_constantAtRank_33 rfl ?_
      refine z_istore (pc := 34) (lv' := [(5, zI (0 : Int32)), (4, zI (0 : Int32)), (0, zP a0), (1, zI a1), (2, zI a2), (3, zI a3)]) x dX6_constantAtRank_34 (Nat.le_of_ble_eq_true rfl) rfl ?_
      exact z_sub [2, 3, 4, 5, 1, 0] rfl (w_X6_constantAtRank_36 x hl hret hnm htab h24 zN a0 a1 a2 a3 (0 : Int32) (0 : Int32))
def s_X6_constantAtRank_13 (E : zE) (a0 : Option Nat) (a1 : Int32) (a2 : Int32) (b0 : Option Nat) (b1 : Int32) : zM := zC (zRv b0 [(34, fun b => s_X6_isThrown E (some b) b1 (1 : Int32))]) zThr (zKI (fun v14 => if v14 = 0 then (s_X6_constantAtRank_24 E zN a0 a1 a2 (0 : Int32)) else (zRet (some (.int (0 : Int32))))))
theorem w_X6_constantAtRank_13 (x : zCx p l R s m args meth c E D tA cX6_constantAtRank 7 yX6_constantAtRank.cls 20) (hl : l.stackTraces = false) (hret : meth.sig.returnType = (Option.some Jvm.ClassFile.FieldType.int)) (hnm : meth.name = yX6_constantAtRank.name) (htab : ∀ z ∈ c.exceptionTable.toList, False) (a0 : Option Nat) (a1 : Int32) (a2 : Int32) (b0 : Option Nat) (b1 : Int32) : zW p l e R s m args below meth c E D tA 7 k0 (s_X6_constantAtRank_13 E a0 a1 a2 b0 b1) [(0, zP a0), (1, zI a1), (2, zI a2)] 13 [zI b1, zP b0] := by
  unfold s_X6_constantAtRank_13
  refine z_iconst (pc := 13) x (v := (1 : Int32)) dX6_constantAtRank_13 rfl ?_
  refine z_call (pc := 14) (z_canV (pc := 14) (As := [zI b1, zI (1 : Int32)]) (st := []) x (ci := 34) rfl (fun b => m_X6_isThrown hl (some b) b1 (1 : Int32)) q2898 q2900 (z_selP x (ci := 34) rfl (by decide) (zNi_inst x q2780) q2899 q2900) q121 q2901 n_X6_isThrown ⟨by decide, by decide⟩ (Nat.le_of_ble_eq_true rfl) dX6_constantAtRank_14) (zv_I fun v14 => ?_) (fun q => zx_thr x (fun z hz => (htab z hz).elim) q)
  refine z_if_eq (pc := 17) (tgt := 22) x dX6_constantAtRank_17 rfl (fun _ => ?_) (fun _ => ?_)
  · refine z_iconst (pc := 22) x (v := (0 : Int32)) dX6_constantAtRank_22 rfl ?_
    refine z_istore_n (pc := 23) (lv' := [(3, zI (0 : Int32)), (0, zP a0), (1, zI a1), (2, zI a2)]) x dX6_constantAtRank_23 rfl (Nat.le_of_ble_eq_true rfl) rfl ?_
    exact z_sub [1, 2, 3, 0] rfl (w_X6_constantAtRank_24 x hl hret hnm htab zN a0 a1 a2 (0 : Int32))
  · refine z_iconst (pc := 20) x (v := (0 : Int32)) dX6_constantAtRank_20 rfl ?_
    exact z_iret (pc := 21) x hret dX6_constantAtRank_21
def s_X6_constantAtRank (E : zE) (a0 : Option Nat) (a1 : Int32) (a2 : Int32) : zM := zC (s_X6_isPredicate E a1) zThr (zKI (fun v2 => if v2 = 0 then (s_X6_constantAtRank_13 E a0 a1 a2 a0 (1 : Int32)) else (s_X6_constantAtRank_13 E a0 a1 a2 a0 (0 : Int32))))
theorem m_X6_constantAtRank {l : Launch} {E : zE} {D : va_G} {tA : Nat → ClassId} (hl : l.stackTraces = false) (a0 : Option Nat) (a1 : Int32) (a2 : Int32) : zMet l E D tA yX6_constantAtRank (ws_ yX6_constantAtRank cX6_constantAtRank 7 (Option.some Jvm.ClassFile.FieldType.int)) 20 (s_X6_constantAtRank E a0 a1 a2) [zP a0, zI a1, zI a2] := by
  refine z_met hl (by decide +kernel) (by rw [zSl_len]; exact (Nat.le_of_ble_eq_true rfl)) fun p e R s m args below meth c k0 x hret hnm htab => ?_
  refine z_lv [(0, zP a0), (1, zI a1), (2, zI a2)] rfl ?_
  unfold s_X6_constantAtRank
  refine z_aload_n (pc := 0) x 0 dX6_constantAtRank_0 rfl rfl ?_
  refine z_iload_n (pc := 1) x 1 dX6_constantAtRank_1 rfl rfl ?_
  refine z_call (pc := 2) (z_canS (pc := 2) (As := [zI a1]) (st := [zP a0]) x (m_X6_isPredicate hl a1) q2892 q2893 q121 q2894 n_X6_isPredicate ⟨by decide, by decide⟩ (Nat.le_of_ble_eq_true rfl) dX6_constantAtRank_2) (zv_I fun v2 => ?_) (fun q => zx_thr x (fun z hz => (htab z hz).elim) q)
  refine z_if_ne (pc := 5) (tgt := 12) x dX6_constantAtRank_5 rfl (fun _ => ?_) (fun _ => ?_)
  · refine z_iconst (pc := 8) x (v := (1 : Int32)) dX6_constantAtRank_8 rfl ?_
    refine z_goto (pc := 9) (tgt := 13) x dX6_constantAtRank_9 rfl ?_
    exact z_sub [0, 1, 2] rfl (w_X6_constantAtRank_13 x hl hret hnm htab a0 a1 a2 a0 (1 : Int32))
  · refine z_iconst (pc := 12) x (v := (0 : Int32)) dX6_constantAtRank_12 rfl ?_
    exact z_sub [0, 1, 2] rfl (w_X6_constantAtRank_13 x hl hret hnm htab a0 a1 a2 a0 (0 : Int32))
/-! X6_greatest -/
def s_X6_greatest_89 (E : zE) (k53 : Option Nat → Int32 → Int32 → Int32 → zM) (a0 : Option Nat) (a1 : Int32) (a3 : Int32) (b0 : Int32) : zM := k53 a0 a1 b0 (a3 + (1 : Int32))
theorem w_X6_greatest_89 (x : zCx p l R s m args meth c E D tA cX6_greatest 4 yX6_greatest.cls 20) (hl : l.stackTraces = false) (hret : meth.sig.returnType = (Option.some Jvm.ClassFile.FieldType.int)) (hnm : meth.name = yX6_greatest.name) (htab : ∀ z ∈ c.exceptionTable.toList, False) {k53 : Option Nat → Int32 → Int32 → Int32 → zM} (h53 : ∀ (a0 : Option Nat) (a1 : Int32) (a2 : Int32) (a3 : Int32) , zW p l e R s m args below meth c E D tA 4 k0 (k53 a0 a1 a2 a3) [(0, zP a0), (1, zI a1), (2, zI a2), (3, zI a3)] 53 []) (a0 : Option Nat) (a1 : Int32) (a3 : Int32) (b0 : Int32) : zW p l e R s m args below meth c E D tA 4 k0 (s_X6_greatest_89 E k53 a0 a1 a3 b0) [(0, zP a0), (1, zI a1), (3, zI a3)] 89 [zI b0] := by
  unfold s_X6_greatest_89
  refine z_istore_n (pc := 89) (lv' := [(2, zI b0), (0, zP a0), (1, zI a1), (3, zI a3)]) x dX6_greatest_89 rfl (Nat.le_of_ble_eq_true rfl) rfl ?_
  refine z_iinc (pc := 90) (lv' := [(3, zI (a3 + (1 : Int32))), (2, zI b0), (0, zP a0), (1, zI a1)]) x (v2 := (a3 + (1 : Int32))) 3 dX6_greatest_90 rfl rfl (Nat.le_of_ble_eq_true rfl) rfl ?_
  refine z_goto (pc := 93) (tgt := 53) x dX6_greatest_93 rfl ?_
  exact z_sub [2, 3, 1, 0] rfl (h53 a0 a1 b0 (a3 + (1 : Int32)))
def s_X6_greatest_88 (E : zE) (k53 : Option Nat → Int32 → Int32 → Int32 → zM) (a0 : Option Nat) (a1 : Int32) (a2 : Int32) (a3 : Int32) : zM := s_X6_greatest_89 E k53 a0 a1 a3 a2
theorem w_X6_greatest_88 (x : zCx p l R s m args meth c E D tA cX6_greatest 4 yX6_greatest.cls 20) (hl : l.stackTraces = false) (hret : meth.sig.returnType = (Option.some Jvm.ClassFile.FieldType.int)) (hnm : meth.name = yX6_greatest.name) (htab : ∀ z ∈ c.exceptionTable.toList, False) {k53 : Option Nat → Int32 → Int32 → Int32 → zM} (h53 : ∀ (a0 : Option Nat) (a1 : Int32) (a2 : Int32) (a3 : Int32) , zW p l e R s m args below meth c E D tA 4 k0 (k53 a0 a1 a2 a3) [(0, zP a0), (1, zI a1), (2, zI a2), (3, zI a3)] 53 []) (a0 : Option Nat) (a1 : Int32) (a2 : Int32) (a3 : Int32) : zW p l e R s m args below meth c E D tA 4 k0 (s_X6_greatest_88 E k53 a0 a1 a2 a3) [(0, zP a0), (1, zI a1), (2, zI a2), (3, zI a3)] 88 [] := by
  unfold s_X6_greatest_88
  refine z_iload_n (pc := 88) x 2 dX6_greatest_88 rfl rfl ?_
  exact z_sub [0, 1, 3] rfl (w_X6_greatest_89 x hl hret hnm htab h53 a0 a1 a3 a2)
def s_X6_greatest_53 (E : zE) : Nat → Option Nat → Int32 → Int32 → Int32 → zM
  | 0, _, _, _, _ => zFail
  | n + 1, a0, a1, a2, a3 => zC (s_X6_end E (a1 - (97 : Int32))) zThr (zKI (fun v58 => if v58 ≤ a3 then (zRet (some (.int a2))) else (zGetR a0 34 9 (fun v65 => zGaI 2 v65 a3 (fun v69 => if v69 = 0 then (s_X6_greatest_88 E (s_X6_greatest_53 E n) a0 a1 a2 a3) else (zRem a3 (10 : Int32) (fun v76 => if v76 ≤ a2 then (s_X6_greatest_88 E (s_X6_greatest_53 E n) a0 a1 a2 a3) else (zRem a3 (10 : Int32) (fun v84 => s_X6_greatest_89 E (s_X6_greatest_53 E n) a0 a1 a3 v84)))))))))
theorem w_X6_greatest_53 (x : zCx p l R s m args meth c E D tA cX6_greatest 4 yX6_greatest.cls 20) (hl : l.stackTraces = false) (hret : meth.sig.returnType = (Option.some Jvm.ClassFile.FieldType.int)) (hnm : meth.name = yX6_greatest.name) (htab : ∀ z ∈ c.exceptionTable.toList, False) : ∀ (n : Nat) (a0 : Option Nat) (a1 : Int32) (a2 : Int32) (a3 : Int32), zW p l e R s m args below meth c E D tA 4 k0 (s_X6_greatest_53 E n a0 a1 a2 a3) [(0, zP a0), (1, zI a1), (2, zI a2), (3, zI a3)] 53 [] := by
  intro n
  induction n with
  | zero => intro a0 a1 a2 a3; exact z_fail
  | succ n h53 =>
    intro a0 a1 a2 a3
    rw [s_X6_greatest_53]
    refine z_iload_n (pc := 53) x 3 dX6_greatest_53 rfl rfl ?_
    refine z_iload_n (pc := 54) x 1 dX6_greatest_54 rfl rfl ?_
    refine z_bipush (pc := 55) x (v := (97 : Int32)) dX6_greatest_55 rfl ?_
    refine z_isub (pc := 57) x dX6_greatest_57 ?_
    refine z_call (pc := 58) (z_canS (pc := 58) (As := [zI (a1 - (97 : Int32))]) (st := [zI a3]) x (m_X6_end hl (a1 - (97 : Int32))) q3052 q3053 q121 q3054 n_X6_end ⟨by decide, by decide⟩ (Nat.le_of_ble_eq_true rfl) dX6_greatest_58) (zv_I fun v58 => ?_) (fun q => zx_thr x (fun z hz => (htab z hz).elim) q)
    refine z_icmp_ge (pc := 61) (tgt := 96) x dX6_greatest_61 rfl (fun _ => ?_) (fun _ => ?_)
    · refine z_iload_n (pc := 96) x 2 dX6_greatest_96 rfl rfl ?_
      exact z_iret (pc := 97) x hret dX6_greatest_97
    · refine z_aload_n (pc := 64) x 0 dX6_greatest_64 rfl rfl ?_
      refine z_get (pc := 65) (fun _ _ h => zAsR_eq h) x in_X6 (ci := 34) rfl (k := 9) (by decide) q2794 (fun _ h => h) dX6_greatest_65 fun v65 => ?_
      refine z_iload_n (pc := 68) x 3 dX6_greatest_68 rfl rfl ?_
      refine z_zald (pc := 69) x (t := 2) rfl dX6_greatest_69 fun v69 => ?_
      refine z_if_eq (pc := 70) (tgt := 88) x dX6_greatest_70 rfl (fun _ => ?_) (fun _ => ?_)
      · exact z_sub [0, 1, 2, 3] rfl (w_X6_greatest_88 x hl hret hnm htab h53 a0 a1 a2 a3)
      · refine z_iload_n (pc := 73) x 3 dX6_greatest_73 rfl rfl ?_
        refine z_bipush (pc := 74) x (v := (10 : Int32)) dX6_greatest_74 rfl ?_
        refine z_irem (pc := 76) x dX6_greatest_76 fun v76 => ?_
        refine z_iload_n (pc := 77) x 2 dX6_greatest_77 rfl rfl ?_
        refine z_icmp_le (pc := 78) (tgt := 88) x dX6_greatest_78 rfl (fun _ => ?_) (fun _ => ?_)
        · exact z_sub [0, 1, 2, 3] rfl (w_X6_greatest_88 x hl hret hnm htab h53 a0 a1 a2 a3)
        · refine z_iload_n (pc := 81) x 3 dX6_greatest_81 rfl rfl ?_
          refine z_bipush (pc := 82) x (v := (10 : Int32)) dX6_greatest_82 rfl ?_
          refine z_irem (pc := 84) x dX6_greatest_84 fun v84 => ?_
          refine z_goto (pc := 85) (tgt := 89) x dX6_greatest_85 rfl ?_
          exact z_sub [0, 1, 3] rfl (w_X6_greatest_89 x hl hret hnm htab h53 a0 a1 a3 v84)
def s_X6_greatest_34 (E : zE) (a0 : Option Nat) (a1 : Int32) (b0 : Option Nat) (b1 : Int32) : zM := zC (zRv b0 [(34, fun b => s_X6_isThrown E (some b) b1 (2 : Int32))]) zThr (zKI (fun v35 => if v35 = 0 then (zC (s_X6_begin E (a1 - (97 : Int32))) zThr (zKI (fun v49 => s_X6_greatest_53 E zN a0 a1 (0 : Int32) v49))) else (zRet (some (.int (0 : Int32))))))
theorem w_X6_greatest_34 (x : zCx p l R s m args meth c E D tA cX6_greatest 4 yX6_greatest.cls 20) (hl : l.stackTraces = false) (hret : meth.sig.returnType = (Option.some Jvm.ClassFile.FieldType.int)) (hnm : meth.name = yX6_greatest.name) (htab : ∀ z ∈ c.exceptionTable.toList, False) (a0 : Option Nat) (a1 : Int32) (b0 : Option Nat) (b1 : Int32) : zW p l e R s m args below meth c E D tA 4 k0 (s_X6_greatest_34 E a0 a1 b0 b1) [(0, zP a0), (1, zI a1)] 34 [zI b1, zP b0] := by
  unfold s_X6_greatest_34
  refine z_iconst (pc := 34) x (v := (2 : Int32)) dX6_greatest_34 rfl ?_
  refine z_call (pc := 35) (z_canV (pc := 35) (As := [zI b1, zI (2 : Int32)]) (st := []) x (ci := 34) rfl (fun b => m_X6_isThrown hl (some b) b1 (2 : Int32)) q2898 q2900 (z_selP x (ci := 34) rfl (by decide) (zNi_inst x q2780) q2899 q2900) q121 q2901 n_X6_isThrown ⟨by decide, by decide⟩ (Nat.le_of_ble_eq_true rfl) dX6_greatest_35) (zv_I fun v35 => ?_) (fun q => zx_thr x (fun z hz => (htab z hz).elim) q)
  refine z_if_eq (pc := 38) (tgt := 43) x dX6_greatest_38 rfl (fun _ => ?_) (fun _ => ?_)
  · refine z_iconst (pc := 43) x (v := (0 : Int32)) dX6_greatest_43 rfl ?_
    refine z_istore_n (pc := 44) (lv' := [(2, zI (0 : Int32)), (0, zP a0), (1, zI a1)]) x dX6_greatest_44 rfl (Nat.le_of_ble_eq_true rfl) rfl ?_
    refine z_iload_n (pc := 45) x 2 dX6_greatest_45 rfl rfl ?_
    refine z_bipush (pc := 46) x (v := (97 : Int32)) dX6_greatest_46 rfl ?_
    refine z_isub (pc := 48) x dX6_greatest_48 ?_
    refine z_call (pc := 49) (z_canS (pc := 49) (As := [zI (a1 - (97 : Int32))]) (st := []) x (m_X6_begin hl (a1 - (97 : Int32))) q3049 q3050 q121 q3051 n_X6_begin ⟨by decide, by decide⟩ (Nat.le_of_ble_eq_true rfl) dX6_greatest_49) (zv_I fun v49 => ?_) (fun q => zx_thr x (fun z hz => (htab z hz).elim) q)
    refine z_istore_n (pc := 52) (lv' := [(3, zI v49), (2, zI (0 : Int32)), (0, zP a0), (1, zI a1)]) x dX6_greatest_52 rfl (Nat.le_of_ble_eq_true rfl) rfl ?_
    exact z_sub [2, 3, 1, 0] rfl (w_X6_greatest_53 x hl hret hnm htab zN a0 a1 (0 : Int32) v49)
  · refine z_iconst (pc := 41) x (v := (0 : Int32)) dX6_greatest_41 rfl ?_
    exact z_iret (pc := 42) x hret dX6_greatest_42
def s_X6_greatest_13 (E : zE) (a0 : Option Nat) (a1 : Int32) (b0 : Option Nat) (b1 : Int32) : zM := zC (zRv b0 [(34, fun b => s_X6_isThrown E (some b) b1 (1 : Int32))]) zThr (zKI (fun v14 => if v14 = 0 then (zC (zRv a0 [(34, fun b => s_X6_trueCount E (some b) a1)]) zThr (zKI (fun v23 => if v23 = 0 then (s_X6_greatest_34 E a0 a1 a0 (1 : Int32)) else (s_X6_greatest_34 E a0 a1 a0 (0 : Int32))))) else (zRet (some (.int (0 : Int32))))))
theorem w_X6_greatest_13 (x : zCx p l R s m args meth c E D tA cX6_greatest 4 yX6_greatest.cls 20) (hl : l.stackTraces = false) (hret : meth.sig.returnType = (Option.some Jvm.ClassFile.FieldType.int)) (hnm : meth.name = yX6_greatest.name) (htab : ∀ z ∈ c.exceptionTable.toList, False) (a0 : Option Nat) (a1 : Int32) (b0 : Option Nat) (b1 : Int32) : zW p l e R s m args below meth c E D tA 4 k0 (s_X6_greatest_13 E a0 a1 b0 b1) [(0, zP a0), (1, zI a1)] 13 [zI b1, zP b0] := by
  unfold s_X6_greatest_13
  refine z_iconst (pc := 13) x (v := (1 : Int32)) dX6_greatest_13 rfl ?_
  refine z_call (pc := 14) (z_canV (pc := 14) (As := [zI b1, zI (1 : Int32)]) (st := []) x (ci := 34) rfl (fun b => m_X6_isThrown hl (some b) b1 (1 : Int32)) q2898 q2900 (z_selP x (ci := 34) rfl (by decide) (zNi_inst x q2780) q2899 q2900) q121 q2901 n_X6_isThrown ⟨by decide, by decide⟩ (Nat.le_of_ble_eq_true rfl) dX6_greatest_14) (zv_I fun v14 => ?_) (fun q => zx_thr x (fun z hz => (htab z hz).elim) q)
  refine z_if_ne (pc := 17) (tgt := 41) x dX6_greatest_17 rfl (fun _ => ?_) (fun _ => ?_)
  · refine z_aload_n (pc := 20) x 0 dX6_greatest_20 rfl rfl ?_
    refine z_aload_n (pc := 21) x 0 dX6_greatest_21 rfl rfl ?_
    refine z_iload_n (pc := 22) x 1 dX6_greatest_22 rfl rfl ?_
    refine z_call (pc := 23) (z_canV (pc := 23) (As := [zI a1]) (st := [zP a0]) x (ci := 34) rfl (fun b => m_X6_trueCount hl (some b) a1) q3079 q3046 (x.2.2.2.2.1 _ q3047) q121 q3048 n_X6_trueCount ⟨by decide, by decide⟩ (Nat.le_of_ble_eq_true rfl) dX6_greatest_23) (zv_I fun v23 => ?_) (fun q => zx_thr x (fun z hz => (htab z hz).elim) q)
    refine z_if_ne (pc := 26) (tgt := 33) x dX6_greatest_26 rfl (fun _ => ?_) (fun _ => ?_)
    · refine z_iconst (pc := 29) x (v := (1 : Int32)) dX6_greatest_29 rfl ?_
      refine z_goto (pc := 30) (tgt := 34) x dX6_greatest_30 rfl ?_
      exact z_sub [0, 1] rfl (w_X6_greatest_34 x hl hret hnm htab a0 a1 a0 (1 : Int32))
    · refine z_iconst (pc := 33) x (v := (0 : Int32)) dX6_greatest_33 rfl ?_
      exact z_sub [0, 1] rfl (w_X6_greatest_34 x hl hret hnm htab a0 a1 a0 (0 : Int32))
  · refine z_iconst (pc := 41) x (v := (0 : Int32)) dX6_greatest_41 rfl ?_
    exact z_iret (pc := 42) x hret dX6_greatest_42
def s_X6_greatest (E : zE) (a0 : Option Nat) (a1 : Int32) : zM := zC (s_X6_isPredicate E a1) zThr (zKI (fun v2 => if v2 = 0 then (s_X6_greatest_13 E a0 a1 a0 (1 : Int32)) else (s_X6_greatest_13 E a0 a1 a0 (0 : Int32))))
theorem m_X6_greatest {l : Launch} {E : zE} {D : va_G} {tA : Nat → ClassId} (hl : l.stackTraces = false) (a0 : Option Nat) (a1 : Int32) : zMet l E D tA yX6_greatest (ws_ yX6_greatest cX6_greatest 4 (Option.some Jvm.ClassFile.FieldType.int)) 20 (s_X6_greatest E a0 a1) [zP a0, zI a1] := by
  refine z_met hl (by decide +kernel) (by rw [zSl_len]; exact (Nat.le_of_ble_eq_true rfl)) fun p e R s m args below meth c k0 x hret hnm htab => ?_
  refine z_lv [(0, zP a0), (1, zI a1)] rfl ?_
  unfold s_X6_greatest
  refine z_aload_n (pc := 0) x 0 dX6_greatest_0 rfl rfl ?_
  refine z_iload_n (pc := 1) x 1 dX6_greatest_1 rfl rfl ?_
  refine z_call (pc := 2) (z_canS (pc := 2) (As := [zI a1]) (st := [zP a0]) x (m_X6_isPredicate hl a1) q2892 q2893 q121 q2894 n_X6_isPredicate ⟨by decide, by decide⟩ (Nat.le_of_ble_eq_true rfl) dX6_greatest_2) (zv_I fun v2 => ?_) (fun q => zx_thr x (fun z hz => (htab z hz).elim) q)
  refine z_if_ne (pc := 5) (tgt := 12) x dX6_greatest_5 rfl (fun _ => ?_) (fun _ => ?_)
  · refine z_iconst (pc := 8) x (v := (1 : Int32)) dX6_greatest_8 rfl ?_
    refine z_goto (pc := 9) (tgt := 13) x dX6_greatest_9 rfl ?_
    exact z_sub [0, 1] rfl (w_X6_greatest_13 x hl hret hnm htab a0 a1 a0 (1 : Int32))
  · refine z_iconst (pc := 12) x (v := (0 : Int32)) dX6_greatest_12 rfl ?_
    exact z_sub [0, 1] rfl (w_X6_greatest_13 x hl hret hnm htab a0 a1 a0 (0 : Int32))
/-! X6_isNotTrue -/
def s_X6_isNotTrue_48 (E : zE) (b0 : Option Nat) (b1 : Int32) : zM := zC (zRv b0 [(34, fun b => s_X6_isThrown E (some b) b1 (2 : Int32))]) zThr (zKI (fun v49 => zRetN .boolean v49))
theorem w_X6_isNotTrue_48 (x : zCx p l R s m args meth c E D tA cX6_isNotTrue 4 yX6_isNotTrue.cls 18) (hl : l.stackTraces = false) (hret : meth.sig.returnType = (Option.some Jvm.ClassFile.FieldType.boolean)) (hnm : meth.name = yX6_isNotTrue.name) (htab : ∀ z ∈ c.exceptionTable.toList, False) (b0 : Option Nat) (b1 : Int32) : zW p l e R s m args below meth c E D tA 4 k0 (s_X6_isNotTrue_48 E b0 b1) [] 48 [zI b1, zP b0] := by
  unfold s_X6_isNotTrue_48
  refine z_iconst (pc := 48) x (v := (2 : Int32)) dX6_isNotTrue_48 rfl ?_
  refine z_call (pc := 49) (z_canV (pc := 49) (As := [zI b1, zI (2 : Int32)]) (st := []) x (ci := 34) rfl (fun b => m_X6_isThrown hl (some b) b1 (2 : Int32)) q2898 q2900 (z_selP x (ci := 34) rfl (by decide) (zNi_inst x q2780) q2899 q2900) q121 q2901 n_X6_isThrown ⟨by decide, by decide⟩ (Nat.le_of_ble_eq_true rfl) dX6_isNotTrue_49) (zv_I fun v49 => ?_) (fun q => zx_thr x (fun z hz => (htab z hz).elim) q)
  exact z_zret (pc := 52) x hret dX6_isNotTrue_52
def s_X6_isNotTrue_15 (E : zE) (a0 : Option Nat) (a1 : Int32) (a2 : Int32) (a3 : Int32) (b0 : Option Nat) (b1 : Int32) : zM := zC (zRv b0 [(34, fun b => s_X6_isThrown E (some b) b1 (1 : Int32))]) zThr (zKI (fun v16 => if v16 = 0 then (zC (zRv a0 [(34, fun b => s_X6_finds E (some b))]) zThr (zKV (zGetR a0 34 9 (fun v30 => zC (s_X6_factOf E a1 a2 a3) zThr (zKI (fun v36 => zGaI 2 v30 v36 (fun v39 => if v39 = 0 then (s_X6_isNotTrue_48 E a0 (1 : Int32)) else (s_X6_isNotTrue_48 E a0 (0 : Int32))))))))) else (zRetN .boolean (1 : Int32))))
theorem w_X6_isNotTrue_15 (x : zCx p l R s m args meth c E D tA cX6_isNotTrue 4 yX6_isNotTrue.cls 18) (hl : l.stackTraces = false) (hret : meth.sig.returnType = (Option.some Jvm.ClassFile.FieldType.boolean)) (hnm : meth.name = yX6_isNotTrue.name) (htab : ∀ z ∈ c.exceptionTable.toList, False) (a0 : Option Nat) (a1 : Int32) (a2 : Int32) (a3 : Int32) (b0 : Option Nat) (b1 : Int32) : zW p l e R s m args below meth c E D tA 4 k0 (s_X6_isNotTrue_15 E a0 a1 a2 a3 b0 b1) [(0, zP a0), (1, zI a1), (2, zI a2), (3, zI a3)] 15 [zI b1, zP b0] := by
  unfold s_X6_isNotTrue_15
  refine z_iconst (pc := 15) x (v := (1 : Int32)) dX6_isNotTrue_15 rfl ?_
  refine z_call (pc := 16) (z_canV (pc := 16) (As := [zI b1, zI (1 : Int32)]) (st := []) x (ci := 34) rfl (fun b => m_X6_isThrown hl (some b) b1 (1 : Int32)) q2898 q2900 (z_selP x (ci := 34) rfl (by decide) (zNi_inst x q2780) q2899 q2900) q121 q2901 n_X6_isThrown ⟨by decide, by decide⟩ (Nat.le_of_ble_eq_true rfl) dX6_isNotTrue_16) (zv_I fun v16 => ?_) (fun q => zx_thr x (fun z hz => (htab z hz).elim) q)
  refine z_if_eq (pc := 19) (tgt := 24) x dX6_isNotTrue_19 rfl (fun _ => ?_) (fun _ => ?_)
  · refine z_aload_n (pc := 24) x 0 dX6_isNotTrue_24 rfl rfl ?_
    refine z_call (pc := 25) (z_canV (pc := 25) (As := []) (st := []) x (ci := 34) rfl (fun b => m_X6_finds hl (some b)) q2923 q2925 (z_selP x (ci := 34) rfl (by decide) (zNi_inst x q2780) q2924 q2925) q121 q2926 n_X6_finds ⟨by decide, by decide⟩ (Nat.le_of_ble_eq_true rfl) dX6_isNotTrue_25) (zv_V ?_) (fun q => zx_thr x (fun z hz => (htab z hz).elim) q)
    refine z_aload_n (pc := 28) x 0 dX6_isNotTrue_28 rfl rfl ?_
    refine z_aload_n (pc := 29) x 0 dX6_isNotTrue_29 rfl rfl ?_
    refine z_get (pc := 30) (fun _ _ h => zAsR_eq h) x in_X6 (ci := 34) rfl (k := 9) (by decide) q2794 (fun _ h => h) dX6_isNotTrue_30 fun v30 => ?_
    refine z_iload_n (pc := 33) x 1 dX6_isNotTrue_33 rfl rfl ?_
    refine z_iload_n (pc := 34) x 2 dX6_isNotTrue_34 rfl rfl ?_
    refine z_iload_n (pc := 35) x 3 dX6_isNotTrue_35 rfl rfl ?_
    refine z_call (pc := 36) (z_canS (pc := 36) (As := [zI a1, zI a2, zI a3]) (st := [zP v30, zP a0]) x (m_X6_factOf hl a1 a2 a3) q2902 q2903 q121 q2904 n_X6_factOf ⟨by decide, by decide⟩ (Nat.le_of_ble_eq_true rfl) dX6_isNotTrue_36) (zv_I fun v36 => ?_) (fun q => zx_thr x (fun z hz => (htab z hz).elim) q)
    refine z_zald (pc := 39) x (t := 2) rfl dX6_isNotTrue_39 fun v39 => ?_
    refine z_if_ne (pc := 40) (tgt := 47) x dX6_isNotTrue_40 rfl (fun _ => ?_) (fun _ => ?_)
    · refine z_iconst (pc := 43) x (v := (1 : Int32)) dX6_isNotTrue_43 rfl ?_
      refine z_goto (pc := 44) (tgt := 48) x dX6_isNotTrue_44 rfl ?_
      exact z_sub [] rfl (w_X6_isNotTrue_48 x hl hret hnm htab a0 (1 : Int32))
    · refine z_iconst (pc := 47) x (v := (0 : Int32)) dX6_isNotTrue_47 rfl ?_
      exact z_sub [] rfl (w_X6_isNotTrue_48 x hl hret hnm htab a0 (0 : Int32))
  · refine z_iconst (pc := 22) x (v := (1 : Int32)) dX6_isNotTrue_22 rfl ?_
    exact z_zret (pc := 23) x hret dX6_isNotTrue_23
def s_X6_isNotTrue (E : zE) (a0 : Option Nat) (a1 : Int32) (a2 : Int32) (a3 : Int32) : zM := zC (s_X6_isFact E a1 a2 a3) zThr (zKI (fun v4 => if v4 = 0 then (s_X6_isNotTrue_15 E a0 a1 a2 a3 a0 (1 : Int32)) else (s_X6_isNotTrue_15 E a0 a1 a2 a3 a0 (0 : Int32))))
theorem m_X6_isNotTrue {l : Launch} {E : zE} {D : va_G} {tA : Nat → ClassId} (hl : l.stackTraces = false) (a0 : Option Nat) (a1 : Int32) (a2 : Int32) (a3 : Int32) : zMet l E D tA yX6_isNotTrue (ws_ yX6_isNotTrue cX6_isNotTrue 4 (Option.some Jvm.ClassFile.FieldType.boolean)) 18 (s_X6_isNotTrue E a0 a1 a2 a3) [zP a0, zI a1, zI a2, zI a3] := by
  refine z_met hl (by decide +kernel) (by rw [zSl_len]; exact (Nat.le_of_ble_eq_true rfl)) fun p e R s m args below meth c k0 x hret hnm htab => ?_
  refine z_lv [(0, zP a0), (1, zI a1), (2, zI a2), (3, zI a3)] rfl ?_
  unfold s_X6_isNotTrue
  refine z_aload_n (pc := 0) x 0 dX6_isNotTrue_0 rfl rfl ?_
  refine z_iload_n (pc := 1) x 1 dX6_isNotTrue_1 rfl rfl ?_
  refine z_iload_n (pc := 2) x 2 dX6_isNotTrue_2 rfl rfl ?_
  refine z_iload_n (pc := 3) x 3 dX6_isNotTrue_3 rfl rfl ?_
  refine z_call (pc := 4) (z_canS (pc := 4) (As := [zI a1, zI a2, zI a3]) (st := [zP a0]) x (m_X6_isFact hl a1 a2 a3) q2889 q2890 q121 q2891 n_X6_isFact ⟨by decide, by decide⟩ (Nat.le_of_ble_eq_true rfl) dX6_isNotTrue_4) (zv_I fun v4 => ?_) (fun q => zx_thr x (fun z hz => (htab z hz).elim) q)
  refine z_if_ne (pc := 7) (tgt := 14) x dX6_isNotTrue_7 rfl (fun _ => ?_) (fun _ => ?_)
  · refine z_iconst (pc := 10) x (v := (1 : Int32)) dX6_isNotTrue_10 rfl ?_
    refine z_goto (pc := 11) (tgt := 15) x dX6_isNotTrue_11 rfl ?_
    exact z_sub [0, 1, 2, 3] rfl (w_X6_isNotTrue_15 x hl hret hnm htab a0 a1 a2 a3 a0 (1 : Int32))
  · refine z_iconst (pc := 14) x (v := (0 : Int32)) dX6_isNotTrue_14 rfl ?_
    exact z_sub [0, 1, 2, 3] rfl (w_X6_isNotTrue_15 x hl hret hnm htab a0 a1 a2 a3 a0 (0 : Int32))
/-! X6_height -/
def s_X6_height (E : zE) (a0 : Option Nat) (a1 : Int32) (a2 : Int32) (a3 : Int32) : zM := zC (zRv a0 [(34, fun b => s_X6_isNotTrue E (some b) a1 a2 a3)]) zThr (zKI (fun v4 => if v4 = 0 then (zGetR a0 34 4 (fun v15 => zC (s_X6_factOf E a1 a2 a3) zThr (zKI (fun v21 => zGaI 0 v15 v21 (fun v24 => zRet (some (.int v24))))))) else (zRet (some (.int (0 : Int32))))))
theorem m_X6_height {l : Launch} {E : zE} {D : va_G} {tA : Nat → ClassId} (hl : l.stackTraces = false) (a0 : Option Nat) (a1 : Int32) (a2 : Int32) (a3 : Int32) : zMet l E D tA yX6_height (ws_ yX6_height cX6_height 4 (Option.some Jvm.ClassFile.FieldType.int)) 19 (s_X6_height E a0 a1 a2 a3) [zP a0, zI a1, zI a2, zI a3] := by
  refine z_met hl (by decide +kernel) (by rw [zSl_len]; exact (Nat.le_of_ble_eq_true rfl)) fun p e R s m args below meth c k0 x hret hnm htab => ?_
  refine z_lv [(0, zP a0), (1, zI a1), (2, zI a2), (3, zI a3)] rfl ?_
  unfold s_X6_height
  refine z_aload_n (pc := 0) x 0 dX6_height_0 rfl rfl ?_
  refine z_iload_n (pc := 1) x 1 dX6_height_1 rfl rfl ?_
  refine z_iload_n (pc := 2) x 2 dX6_height_2 rfl rfl ?_
  refine z_iload_n (pc := 3) x 3 dX6_height_3 rfl rfl ?_
  refine z_call (pc := 4) (z_canV (pc := 4) (As := [zI a1, zI a2, zI a3]) (st := []) x (ci := 34) rfl (fun b => m_X6_isNotTrue hl (some b) a1 a2 a3) q3084 q3086 (z_selP x (ci := 34) rfl (by decide) (zNi_inst x q2780) q3085 q3086) q121 q3087 n_X6_isNotTrue ⟨by decide, by decide⟩ (Nat.le_of_ble_eq_true rfl) dX6_height_4) (zv_I fun v4 => ?_) (fun q => zx_thr x (fun z hz => (htab z hz).elim) q)
  refine z_if_eq (pc := 7) (tgt := 14) x dX6_height_7 rfl (fun _ => ?_) (fun _ => ?_)
  · refine z_aload_n (pc := 14) x 0 dX6_height_14 rfl rfl ?_
    refine z_get (pc := 15) (fun _ _ h => zAsR_eq h) x in_X6 (ci := 34) rfl (k := 4) (by decide) q2789 (fun _ h => h) dX6_height_15 fun v15 => ?_
    refine z_iload_n (pc := 18) x 1 dX6_height_18 rfl rfl ?_
    refine z_iload_n (pc := 19) x 2 dX6_height_19 rfl rfl ?_
    refine z_iload_n (pc := 20) x 3 dX6_height_20 rfl rfl ?_
    refine z_call (pc := 21) (z_canS (pc := 21) (As := [zI a1, zI a2, zI a3]) (st := [zP v15]) x (m_X6_factOf hl a1 a2 a3) q2902 q2903 q121 q2904 n_X6_factOf ⟨by decide, by decide⟩ (Nat.le_of_ble_eq_true rfl) dX6_height_21) (zv_I fun v21 => ?_) (fun q => zx_thr x (fun z hz => (htab z hz).elim) q)
    refine z_iald (pc := 24) x (t := 0) rfl dX6_height_24 fun v24 => ?_
    exact z_iret (pc := 25) x hret dX6_height_25
  · refine z_iconst (pc := 10) x (v := (0 : Int32)) dX6_height_10 rfl ?_
    refine z_goto (pc := 11) (tgt := 25) x dX6_height_11 rfl ?_
    exact z_iret (pc := 25) x hret dX6_height_25
/-! X6_heightByLevels -/
def s_X6_heightByLevels (E : zE) (a0 : Option Nat) (a1 : Int32) (a2 : Int32) (a3 : Int32) : zM := zC (zRv a0 [(34, fun b => s_X6_height E (some b) a1 a2 a3)]) zThr (zKI (fun v4 => zRet (some (.int v4))))
theorem m_X6_heightByLevels {l : Launch} {E : zE} {D : va_G} {tA : Nat → ClassId} (hl : l.stackTraces = false) (a0 : Option Nat) (a1 : Int32) (a2 : Int32) (a3 : Int32) : zMet l E D tA yX6_heightByLevels (ws_ yX6_heightByLevels cX6_heightByLevels 4 (Option.some Jvm.ClassFile.FieldType.int)) 20 (s_X6_heightByLevels E a0 a1 a2 a3) [zP a0, zI a1, zI a2, zI a3] := by
  refine z_met hl (by decide +kernel) (by rw [zSl_len]; exact (Nat.le_of_ble_eq_true rfl)) fun p e R s m args below meth c k0 x hret hnm htab => ?_
  refine z_lv [(0, zP a0), (1, zI a1), (2, zI a2), (3, zI a3)] rfl ?_
  unfold s_X6_heightByLevels
  refine z_aload_n (pc := 0) x 0 dX6_heightByLevels_0 rfl rfl ?_
  refine z_iload_n (pc := 1) x 1 dX6_heightByLevels_1 rfl rfl ?_
  refine z_iload_n (pc := 2) x 2 dX6_heightByLevels_2 rfl rfl ?_
  refine z_iload_n (pc := 3) x 3 dX6_heightByLevels_3 rfl rfl ?_
  refine z_call (pc := 4) (z_canV (pc := 4) (As := [zI a1, zI a2, zI a3]) (st := []) x (ci := 34) rfl (fun b => m_X6_height hl (some b) a1 a2 a3) q3092 q3081 (x.2.2.2.2.1 _ q3082) q121 q3083 n_X6_height ⟨by decide, by decide⟩ (Nat.le_of_ble_eq_true rfl) dX6_heightByLevels_4) (zv_I fun v4 => ?_) (fun q => zx_thr x (fun z hz => (htab z hz).elim) q)
  exact z_iret (pc := 7) x hret dX6_heightByLevels_7
/-! X6_ruleOf -/
def s_X6_ruleOf_36 (E : zE) (a0 : Option Nat) (a4 : Int32) (b0 : Option Nat) (b1 : Int32) : zM := zC (zRv b0 [(34, fun b => s_X6_isThrown E (some b) b1 (2 : Int32))]) zThr (zKI (fun v37 => if v37 = 0 then (zGetR a0 34 5 (fun v48 => zGaI 0 v48 a4 (fun v53 => zDiv v53 (1000 : Int32) (fun v57 => zRet (some (.int v57)))))) else (zRet (some (.int (0 : Int32))))))
theorem w_X6_ruleOf_36 (x : zCx p l R s m args meth c E D tA cX6_ruleOf 5 yX6_ruleOf.cls 19) (hl : l.stackTraces = false) (hret : meth.sig.returnType = (Option.some Jvm.ClassFile.FieldType.int)) (hnm : meth.name = yX6_ruleOf.name) (htab : ∀ z ∈ c.exceptionTable.toList, False) (a0 : Option Nat) (a4 : Int32) (b0 : Option Nat) (b1 : Int32) : zW p l e R s m args below meth c E D tA 5 k0 (s_X6_ruleOf_36 E a0 a4 b0 b1) [(0, zP a0), (4, zI a4)] 36 [zI b1, zP b0] := by
  unfold s_X6_ruleOf_36
  refine z_iconst (pc := 36) x (v := (2 : Int32)) dX6_ruleOf_36 rfl ?_
  refine z_call (pc := 37) (z_canV (pc := 37) (As := [zI b1, zI (2 : Int32)]) (st := []) x (ci := 34) rfl (fun b => m_X6_isThrown hl (some b) b1 (2 : Int32)) q2898 q2900 (z_selP x (ci := 34) rfl (by decide) (zNi_inst x q2780) q2899 q2900) q121 q2901 n_X6_isThrown ⟨by decide, by decide⟩ (Nat.le_of_ble_eq_true rfl) dX6_ruleOf_37) (zv_I fun v37 => ?_) (fun q => zx_thr x (fun z hz => (htab z hz).elim) q)
  refine z_if_eq (pc := 40) (tgt := 47) x dX6_ruleOf_40 rfl (fun _ => ?_) (fun _ => ?_)
  · refine z_aload_n (pc := 47) x 0 dX6_ruleOf_47 rfl rfl ?_
    refine z_get (pc := 48) (fun _ _ h => zAsR_eq h) x in_X6 (ci := 34) rfl (k := 5) (by decide) q2790 (fun _ h => h) dX6_ruleOf_48 fun v48 => ?_
    refine z_iload (pc := 51) x 1 dX6_ruleOf_51 rfl ?_
    refine z_iald (pc := 53) x (t := 0) rfl dX6_ruleOf_53 fun v53 => ?_
    refine z_sipush (pc := 54) x (v := (1000 : Int32)) dX6_ruleOf_54 rfl ?_
    refine z_idiv (pc := 57) x dX6_ruleOf_57 fun v57 => ?_
    exact z_iret (pc := 58) x hret dX6_ruleOf_58
  · refine z_iconst (pc := 43) x (v := (0 : Int32)) dX6_ruleOf_43 rfl ?_
    refine z_goto (pc := 44) (tgt := 58) x dX6_ruleOf_44 rfl ?_
    exact z_iret (pc := 58) x hret dX6_ruleOf_58
def s_X6_ruleOf (E : zE) (a0 : Option Nat) (a1 : Int32) (a2 : Int32) (a3 : Int32) : zM := zC (zRv a0 [(34, fun b => s_X6_isNotTrue E (some b) a1 a2 a3)]) zThr (zKI (fun v4 => if v4 = 0 then (zC (s_X6_factOf E a1 a2 a3) zThr (zKI (fun v15 => zGetR a0 34 5 (fun v22 => zGaI 0 v22 v15 (fun v27 => if 0 ≤ v27 then (s_X6_ruleOf_36 E a0 v15 a0 (0 : Int32)) else (s_X6_ruleOf_36 E a0 v15 a0 (1 : Int32))))))) else (zRet (some (.int (0 : Int32))))))
theorem m_X6_ruleOf {l : Launch} {E : zE} {D : va_G} {tA : Nat → ClassId} (hl : l.stackTraces = false) (a0 : Option Nat) (a1 : Int32) (a2 : Int32) (a3 : Int32) : zMet l E D tA yX6_ruleOf (ws_ yX6_ruleOf cX6_ruleOf 5 (Option.some Jvm.ClassFile.FieldType.int)) 19 (s_X6_ruleOf E a0 a1 a2 a3) [zP a0, zI a1, zI a2, zI a3] := by
  refine z_met hl (by decide +kernel) (by rw [zSl_len]; exact (Nat.le_of_ble_eq_true rfl)) fun p e R s m args below meth c k0 x hret hnm htab => ?_
  refine z_lv [(0, zP a0), (1, zI a1), (2, zI a2), (3, zI a3)] rfl ?_
  unfold s_X6_ruleOf
  refine z_aload_n (pc := 0) x 0 dX6_ruleOf_0 rfl rfl ?_
  refine z_iload_n (pc := 1) x 1 dX6_ruleOf_1 rfl rfl ?_
  refine z_iload_n (pc := 2) x 2 dX6_ruleOf_2 rfl rfl ?_
  refine z_iload_n (pc := 3) x 3 dX6_ruleOf_3 rfl rfl ?_
  refine z_call (pc := 4) (z_canV (pc := 4) (As := [zI a1, zI a2, zI a3]) (st := []) x (ci := 34) rfl (fun b => m_X6_isNotTrue hl (some b) a1 a2 a3) q3084 q3086 (z_selP x (ci := 34) rfl (by decide) (zNi_inst x q2780) q3085 q3086) q121 q3087 n_X6_isNotTrue ⟨by decide, by decide⟩ (Nat.le_of_ble_eq_true rfl) dX6_ruleOf_4) (zv_I fun v4 => ?_) (fun q => zx_thr x (fun z hz => (htab z hz).elim) q)
  refine z_if_eq (pc := 7) (tgt := 12) x dX6_ruleOf_7 rfl (fun _ => ?_) (fun _ => ?_)
  · refine z_iload_n (pc := 12) x 1 dX6_ruleOf_12 rfl rfl ?_
    refine z_iload_n (pc := 13) x 2 dX6_ruleOf_13 rfl rfl ?_
    refine z_iload_n (pc := 14) x 3 dX6_ruleOf_14 rfl rfl ?_
    refine z_call (pc := 15) (z_canS (pc := 15) (As := [zI a1, zI a2, zI a3]) (st := []) x (m_X6_factOf hl a1 a2 a3) q2902 q2903 q121 q2904 n_X6_factOf ⟨by decide, by decide⟩ (Nat.le_of_ble_eq_true rfl) dX6_ruleOf_15) (zv_I fun v15 => ?_) (fun q => zx_thr x (fun z hz => (htab z hz).elim) q)
    refine z_istore (pc := 18) (lv' := [(4, zI v15), (0, zP a0), (1, zI a1), (2, zI a2), (3, zI a3)]) x dX6_ruleOf_18 (Nat.le_of_ble_eq_true rfl) rfl ?_
    refine z_aload_n (pc := 20) x 1 dX6_ruleOf_20 rfl rfl ?_
    refine z_aload_n (pc := 21) x 1 dX6_ruleOf_21 rfl rfl ?_
    refine z_get (pc := 22) (fun _ _ h => zAsR_eq h) x in_X6 (ci := 34) rfl (k := 5) (by decide) q2790 (fun _ h => h) dX6_ruleOf_22 fun v22 => ?_
    refine z_iload (pc := 25) x 0 dX6_ruleOf_25 rfl ?_
    refine z_iald (pc := 27) x (t := 0) rfl dX6_ruleOf_27 fun v27 => ?_
    refine z_if_ge (pc := 28) (tgt := 35) x dX6_ruleOf_28 rfl (fun _ => ?_) (fun _ => ?_)
    · refine z_iconst (pc := 35) x (v := (0 : Int32)) dX6_ruleOf_35 rfl ?_
      exact z_sub [1, 0] rfl (w_X6_ruleOf_36 x hl hret hnm htab a0 v15 a0 (0 : Int32))
    · refine z_iconst (pc := 31) x (v := (1 : Int32)) dX6_ruleOf_31 rfl ?_
      refine z_goto (pc := 32) (tgt := 36) x dX6_ruleOf_32 rfl ?_
      exact z_sub [1, 0] rfl (w_X6_ruleOf_36 x hl hret hnm htab a0 v15 a0 (1 : Int32))
  · refine z_iconst (pc := 10) x (v := (0 : Int32)) dX6_ruleOf_10 rfl ?_
    exact z_iret (pc := 11) x hret dX6_ruleOf_11
/-! X6_sizeBy -/
def s_X6_sizeBy_76 (E : zE) (a3 : Int64) : zM := if (lg_cmp a3 (1000000000 : Int64)) ≤ 0 then (zRet (some (.int ((a3).toInt32)))) else (zRet (some (.int (1000000000 : Int32))))
theorem w_X6_sizeBy_76 (x : zCx p l R s m args meth c E D tA cX6_sizeBy 7 yX6_sizeBy.cls 14) (hl : l.stackTraces = false) (hret : meth.sig.returnType = (Option.some Jvm.ClassFile.FieldType.int)) (hnm : meth.name = yX6_sizeBy.name) (htab : ∀ z ∈ c.exceptionTable.toList, False) (a3 : Int64) : zW p l e R s m args below meth c E D tA 7 k0 (s_X6_sizeBy_76 E a3) [(3, zL a3)] 76 [] := by
  unfold s_X6_sizeBy_76
  refine z_lload_n (pc := 76) x 0 dX6_sizeBy_76 rfl rfl ?_
  refine z_ldc2 (pc := 77) x (v := (1000000000 : Int64)) q3109 dX6_sizeBy_77 ?_
  refine z_lcmp (pc := 80) x dX6_sizeBy_80 ?_
  refine z_if_le (pc := 81) (tgt := 89) x dX6_sizeBy_81 rfl (fun _ => ?_) (fun _ => ?_)
  · refine z_lload_n (pc := 89) x 0 dX6_sizeBy_89 rfl rfl ?_
    refine z_l2i (pc := 90) x dX6_sizeBy_90 ?_
    exact z_iret (pc := 91) x hret dX6_sizeBy_91
  · refine z_ldc (pc := 84) x (v := (1000000000 : Int32)) q3110 dX6_sizeBy_84 ?_
    refine z_goto (pc := 86) (tgt := 91) x dX6_sizeBy_86 rfl ?_
    exact z_iret (pc := 91) x hret dX6_sizeBy_91
def s_X6_sizeBy_68 (E : zE) (k23 : Option Nat → Int32 → Int64 → Int32 → Int32 → zM) (a0 : Option Nat) (a2 : Int32) (a5 : Int32) (a6 : Int32) (b0 : Int64) (b1 : Int64) : zM := k23 a0 a2 (b0 + b1) a5 (a6 + (1 : Int32))
theorem w_X6_sizeBy_68 (x : zCx p l R s m args meth c E D tA cX6_sizeBy 7 yX6_sizeBy.cls 14) (hl : l.stackTraces = false) (hret : meth.sig.returnType = (Option.some Jvm.ClassFile.FieldType.int)) (hnm : meth.name = yX6_sizeBy.name) (htab : ∀ z ∈ c.exceptionTable.toList, False) {k23 : Option Nat → Int32 → Int64 → Int32 → Int32 → zM} (h23 : ∀ (a0 : Option Nat) (a2 : Int32) (a3 : Int64) (a5 : Int32) (a6 : Int32) , zW p l e R s m args below meth c E D tA 7 k0 (k23 a0 a2 a3 a5 a6) [(0, zP a0), (2, zI a2), (3, zL a3), (5, zI a5), (6, zI a6)] 23 []) (a0 : Option Nat) (a2 : Int32) (a5 : Int32) (a6 : Int32) (b0 : Int64) (b1 : Int64) : zW p l e R s m args below meth c E D tA 7 k0 (s_X6_sizeBy_68 E k23 a0 a2 a5 a6 b0 b1) [(0, zP a0), (2, zI a2), (5, zI a5), (6, zI a6)] 68 [zL b1, zL b0] := by
  unfold s_X6_sizeBy_68
  refine z_ladd (pc := 68) x dX6_sizeBy_68 ?_
  refine z_lstore_n (pc := 69) (lv' := [(3, zL (b0 + b1)), (0, zP a0), (2, zI a2), (5, zI a5), (6, zI a6)]) x dX6_sizeBy_69 rfl (Nat.le_of_ble_eq_true rfl) rfl ?_
  refine z_iinc (pc := 70) (lv' := [(6, zI (a6 + (1 : Int32))), (3, zL (b0 + b1)), (0, zP a0), (2, zI a2), (5, zI a5)]) x (v2 := (a6 + (1 : Int32))) 4 dX6_sizeBy_70 rfl rfl (Nat.le_of_ble_eq_true rfl) rfl ?_
  refine z_goto (pc := 73) (tgt := 23) x dX6_sizeBy_73 rfl ?_
  exact z_sub [2, 3, 1, 4, 0] rfl (h23 a0 a2 (b0 + b1) a5 (a6 + (1 : Int32)))
def s_X6_sizeBy_23 (E : zE) : Nat → Option Nat → Int32 → Int64 → Int32 → Int32 → zM
  | 0, _, _, _, _, _ => zFail
  | n + 1, a0, a2, a3, a5, a6 => zC (zRv a0 [(34, fun b => s_X6_of E (some b) a2 (3 : Int32))]) zThr (zKI (fun v28 => if v28 ≤ a6 then (s_X6_sizeBy_76 E a3) else (if a5 = 0 then (s_X6_sizeBy_76 E a3) else (zC (zRv a0 [(34, fun b => s_X6_literal E (some b) a2 a6 (0 : Int32))]) zThr (zKI (fun v45 => if v45 = 0 then (zGetR a0 34 6 (fun v52 => zC (zRv a0 [(34, fun b => s_X6_factOfLiteral E (some b) a2 a6)]) zThr (zKI (fun v59 => zGaI 0 v52 v59 (fun v62 => s_X6_sizeBy_68 E (s_X6_sizeBy_23 E n) a0 a2 a5 a6 a3 ((v62).toInt64)))))) else (s_X6_sizeBy_68 E (s_X6_sizeBy_23 E n) a0 a2 a5 a6 a3 (0 : Int64))))))))
theorem w_X6_sizeBy_23 (x : zCx p l R s m args meth c E D tA cX6_sizeBy 7 yX6_sizeBy.cls 14) (hl : l.stackTraces = false) (hret : meth.sig.returnType = (Option.some Jvm.ClassFile.FieldType.int)) (hnm : meth.name = yX6_sizeBy.name) (htab : ∀ z ∈ c.exceptionTable.toList, False) : ∀ (n : Nat) (a0 : Option Nat) (a2 : Int32) (a3 : Int64) (a5 : Int32) (a6 : Int32), zW p l e R s m args below meth c E D tA 7 k0 (s_X6_sizeBy_23 E n a0 a2 a3 a5 a6) [(0, zP a0), (2, zI a2), (3, zL a3), (5, zI a5), (6, zI a6)] 23 [] := by
  intro n
  induction n with
  | zero => intro a0 a2 a3 a5 a6; exact z_fail
  | succ n h23 =>
    intro a0 a2 a3 a5 a6
    rw [s_X6_sizeBy_23]
    refine z_iload (pc := 23) x 4 dX6_sizeBy_23 rfl ?_
    refine z_aload_n (pc := 25) x 0 dX6_sizeBy_25 rfl rfl ?_
    refine z_iload_n (pc := 26) x 1 dX6_sizeBy_26 rfl rfl ?_
    refine z_iconst (pc := 27) x (v := (3 : Int32)) dX6_sizeBy_27 rfl ?_
    refine z_call (pc := 28) (z_canV (pc := 28) (As := [zI a2, zI (3 : Int32)]) (st := [zI a6]) x (ci := 34) rfl (fun b => m_X6_of hl (some b) a2 (3 : Int32)) q2939 q2941 (z_selP x (ci := 34) rfl (by decide) (zNi_inst x q2780) q2940 q2941) q121 q2942 n_X6_of ⟨by decide, by decide⟩ (Nat.le_of_ble_eq_true rfl) dX6_sizeBy_28) (zv_I fun v28 => ?_) (fun q => zx_thr x (fun z hz => (htab z hz).elim) q)
    refine z_icmp_ge (pc := 31) (tgt := 76) x dX6_sizeBy_31 rfl (fun _ => ?_) (fun _ => ?_)
    · exact z_sub [2] rfl (w_X6_sizeBy_76 x hl hret hnm htab a3)
    · refine z_iload (pc := 34) x 3 dX6_sizeBy_34 rfl ?_
      refine z_if_eq (pc := 36) (tgt := 76) x dX6_sizeBy_36 rfl (fun _ => ?_) (fun _ => ?_)
      · exact z_sub [2] rfl (w_X6_sizeBy_76 x hl hret hnm htab a3)
      · refine z_lload_n (pc := 39) x 2 dX6_sizeBy_39 rfl rfl ?_
        refine z_aload_n (pc := 40) x 0 dX6_sizeBy_40 rfl rfl ?_
        refine z_iload_n (pc := 41) x 1 dX6_sizeBy_41 rfl rfl ?_
        refine z_iload (pc := 42) x 4 dX6_sizeBy_42 rfl ?_
        refine z_iconst (pc := 44) x (v := (0 : Int32)) dX6_sizeBy_44 rfl ?_
        refine z_call (pc := 45) (z_canV (pc := 45) (As := [zI a2, zI a6, zI (0 : Int32)]) (st := [zL a3]) x (ci := 34) rfl (fun b => m_X6_literal hl (some b) a2 a6 (0 : Int32)) q2943 q2945 (z_selP x (ci := 34) rfl (by decide) (zNi_inst x q2780) q2944 q2945) q121 q2946 n_X6_literal ⟨by decide, by decide⟩ (Nat.le_of_ble_eq_true rfl) dX6_sizeBy_45) (zv_I fun v45 => ?_) (fun q => zx_thr x (fun z hz => (htab z hz).elim) q)
        refine z_if_ne (pc := 48) (tgt := 67) x dX6_sizeBy_48 rfl (fun _ => ?_) (fun _ => ?_)
        · refine z_aload_n (pc := 51) x 0 dX6_sizeBy_51 rfl rfl ?_
          refine z_get (pc := 52) (fun _ _ h => zAsR_eq h) x in_X6 (ci := 34) rfl (k := 6) (by decide) q2791 (fun _ h => h) dX6_sizeBy_52 fun v52 => ?_
          refine z_aload_n (pc := 55) x 0 dX6_sizeBy_55 rfl rfl ?_
          refine z_iload_n (pc := 56) x 1 dX6_sizeBy_56 rfl rfl ?_
          refine z_iload (pc := 57) x 4 dX6_sizeBy_57 rfl ?_
          refine z_call (pc := 59) (z_canV (pc := 59) (As := [zI a2, zI a6]) (st := [zP v52, zL a3]) x (ci := 34) rfl (fun b => m_X6_factOfLiteral hl (some b) a2 a6) q2975 q2977 (z_selP x (ci := 34) rfl (by decide) (zNi_inst x q2780) q2976 q2977) q121 q2978 n_X6_factOfLiteral ⟨by decide, by decide⟩ (Nat.le_of_ble_eq_true rfl) dX6_sizeBy_59) (zv_I fun v59 => ?_) (fun q => zx_thr x (fun z hz => (htab z hz).elim) q)
          refine z_iald (pc := 62) x (t := 0) rfl dX6_sizeBy_62 fun v62 => ?_
          refine z_i2l (pc := 63) x dX6_sizeBy_63 ?_
          refine z_goto (pc := 64) (tgt := 68) x dX6_sizeBy_64 rfl ?_
          exact z_sub [0, 1, 3, 4] rfl (w_X6_sizeBy_68 x hl hret hnm htab h23 a0 a2 a5 a6 a3 ((v62).toInt64))
        · refine z_lconst (pc := 67) x (v := (0 : Int64)) dX6_sizeBy_67 rfl ?_
          exact z_sub [0, 1, 3, 4] rfl (w_X6_sizeBy_68 x hl hret hnm htab h23 a0 a2 a5 a6 a3 (0 : Int64))
def s_X6_sizeBy (E : zE) (a0 : Option Nat) (a1 : Int32) : zM := zDiv a1 (1000 : Int32) (fun v4 => zRem a1 (1000 : Int32) (fun v14 => zC (zRv a0 [(34, fun b => s_X6_isStep E (some b) v4 v14)]) zThr (zKI (fun v15 => s_X6_sizeBy_23 E zN a0 v4 (1 : Int64) v15 (0 : Int32)))))
theorem m_X6_sizeBy {l : Launch} {E : zE} {D : va_G} {tA : Nat → ClassId} (hl : l.stackTraces = false) (a0 : Option Nat) (a1 : Int32) : zMet l E D tA yX6_sizeBy (ws_ yX6_sizeBy cX6_sizeBy 7 (Option.some Jvm.ClassFile.FieldType.int)) 14 (s_X6_sizeBy E a0 a1) [zP a0, zI a1] := by
  refine z_met hl (by decide +kernel) (by rw [zSl_len]; exact (Nat.le_of_ble_eq_true rfl)) fun p e R s m args below meth c k0 x hret hnm htab => ?_
  refine z_lv [(0, zP a0), (1, zI a1)] rfl ?_
  unfold s_X6_sizeBy
  refine z_iload_n (pc := 0) x 1 dX6_sizeBy_0 rfl rfl ?_
  refine z_sipush (pc := 1) x (v := (1000 : Int32)) dX6_sizeBy_1 rfl ?_
  refine z_idiv (pc := 4) x dX6_sizeBy_4 fun v4 => ?_
  refine z_istore_n (pc := 5) (lv' := [(2, zI v4), (0, zP a0), (1, zI a1)]) x dX6_sizeBy_5 rfl (Nat.le_of_ble_eq_true rfl) rfl ?_
  refine z_lconst (pc := 6) x (v := (1 : Int64)) dX6_sizeBy_6 rfl ?_
  refine z_lstore_n (pc := 7) (lv' := [(3, zL (1 : Int64)), (2, zI v4), (0, zP a0), (1, zI a1)]) x dX6_sizeBy_7 rfl (Nat.le_of_ble_eq_true rfl) rfl ?_
  refine z_aload_n (pc := 8) x 2 dX6_sizeBy_8 rfl rfl ?_
  refine z_iload_n (pc := 9) x 1 dX6_sizeBy_9 rfl rfl ?_
  refine z_iload_n (pc := 10) x 3 dX6_sizeBy_10 rfl rfl ?_
  refine z_sipush (pc := 11) x (v := (1000 : Int32)) dX6_sizeBy_11 rfl ?_
  refine z_irem (pc := 14) x dX6_sizeBy_14 fun v14 => ?_
  refine z_call (pc := 15) (z_canV (pc := 15) (As := [zI v4, zI v14]) (st := []) x (ci := 34) rfl (fun b => m_X6_isStep hl (some b) v4 v14) q2951 q2953 (z_selP x (ci := 34) rfl (by decide) (zNi_inst x q2780) q2952 q2953) q121 q2954 n_X6_isStep ⟨by decide, by decide⟩ (Nat.le_of_ble_eq_true rfl) dX6_sizeBy_15) (zv_I fun v15 => ?_) (fun q => zx_thr x (fun z hz => (htab z hz).elim) q)
  refine z_istore (pc := 18) (lv' := [(5, zI v15), (3, zL (1 : Int64)), (2, zI v4), (0, zP a0), (1, zI a1)]) x dX6_sizeBy_18 (Nat.le_of_ble_eq_true rfl) rfl ?_
  refine z_iconst (pc := 20) x (v := (0 : Int32)) dX6_sizeBy_20 rfl ?_
  refine z_istore (pc := 21) (lv' := [(6, zI (0 : Int32)), (5, zI v15), (3, zL (1 : Int64)), (2, zI v4), (0, zP a0), (1, zI a1)]) x dX6_sizeBy_21 (Nat.le_of_ble_eq_true rfl) rfl ?_
  exact z_sub [4, 3, 2, 1, 0] rfl (w_X6_sizeBy_23 x hl hret hnm htab zN a0 v4 (1 : Int64) v15 (0 : Int32))
/-! X6_sizes -/
def s_X6_sizes_61 (E : zE) (k2 : Option Nat → Int32 → zM) (k11 : Option Nat → Int32 → Int32 → zM) (a0 : Option Nat) (a1 : Int32) (a2 : Int32) : zM := k11 a0 a1 (a2 + (1 : Int32))
theorem w_X6_sizes_61 (x : zCx p l R s m args meth c E D tA cX6_sizes 3 yX6_sizes.cls 15) (hl : l.stackTraces = false) (hret : meth.sig.returnType = (Option.none : Option Jvm.ClassFile.FieldType)) (hnm : meth.name = yX6_sizes.name) (htab : ∀ z ∈ c.exceptionTable.toList, False) {k2 : Option Nat → Int32 → zM} (h2 : ∀ (a0 : Option Nat) (a1 : Int32) , zW p l e R s m args below meth c E D tA 3 k0 (k2 a0 a1) [(0, zP a0), (1, zI a1)] 2 []) {k11 : Option Nat → Int32 → Int32 → zM} (h11 : ∀ (a0 : Option Nat) (a1 : Int32) (a2 : Int32) , zW p l e R s m args below meth c E D tA 3 k0 (k11 a0 a1 a2) [(0, zP a0), (1, zI a1), (2, zI a2)] 11 []) (a0 : Option Nat) (a1 : Int32) (a2 : Int32) : zW p l e R s m args below meth c E D tA 3 k0 (s_X6_sizes_61 E k2 k11 a0 a1 a2) [(0, zP a0), (1, zI a1), (2, zI a2)] 61 [] := by
  unfold s_X6_sizes_61
  refine z_iinc (pc := 61) (lv' := [(2, zI (a2 + (1 : Int32))), (0, zP a0), (1, zI a1)]) x (v2 := (a2 + (1 : Int32))) 2 dX6_sizes_61 rfl rfl (Nat.le_of_ble_eq_true rfl) rfl ?_
  refine z_goto (pc := 64) (tgt := 11) x dX6_sizes_64 rfl ?_
  exact z_sub [1, 2, 0] rfl (h11 a0 a1 (a2 + (1 : Int32)))
def s_X6_sizes_60 (E : zE) (k2 : Option Nat → Int32 → zM) (k11 : Option Nat → Int32 → Int32 → zM) (a0 : Option Nat) (a1 : Int32) (a2 : Int32) (b0 : Option Nat) (b1 : Int32) (b2 : Int32) : zM := zSaI E 0 b0 b1 b2 (s_X6_sizes_61 E k2 k11 a0 a1 a2)
theorem w_X6_sizes_60 (x : zCx p l R s m args meth c E D tA cX6_sizes 3 yX6_sizes.cls 15) (hl : l.stackTraces = false) (hret : meth.sig.returnType = (Option.none : Option Jvm.ClassFile.FieldType)) (hnm : meth.name = yX6_sizes.name) (htab : ∀ z ∈ c.exceptionTable.toList, False) {k2 : Option Nat → Int32 → zM} (h2 : ∀ (a0 : Option Nat) (a1 : Int32) , zW p l e R s m args below meth c E D tA 3 k0 (k2 a0 a1) [(0, zP a0), (1, zI a1)] 2 []) {k11 : Option Nat → Int32 → Int32 → zM} (h11 : ∀ (a0 : Option Nat) (a1 : Int32) (a2 : Int32) , zW p l e R s m args below meth c E D tA 3 k0 (k11 a0 a1 a2) [(0, zP a0), (1, zI a1), (2, zI a2)] 11 []) (a0 : Option Nat) (a1 : Int32) (a2 : Int32) (b0 : Option Nat) (b1 : Int32) (b2 : Int32) : zW p l e R s m args below meth c E D tA 3 k0 (s_X6_sizes_60 E k2 k11 a0 a1 a2 b0 b1 b2) [(0, zP a0), (1, zI a1), (2, zI a2)] 60 [zI b2, zI b1, zP b0] := by
  unfold s_X6_sizes_60
  refine z_iast (pc := 60) x (t := 0) rfl dX6_sizes_60 ?_
  exact z_sub [0, 1, 2] rfl (w_X6_sizes_61 x hl hret hnm htab h2 h11 a0 a1 a2)
def s_X6_sizes_11 (E : zE) (k2 : Option Nat → Int32 → zM) : Nat → Option Nat → Int32 → Int32 → zM
  | 0, _, _, _ => zFail
  | n + 1, a0, a1, a2 => if (440 : Int32) ≤ a2 then (k2 a0 (a1 + (1 : Int32))) else (zGetR a0 34 9 (fun v19 => zGaI 2 v19 a2 (fun v23 => if v23 = 0 then (s_X6_sizes_61 E k2 (s_X6_sizes_11 E k2 n) a0 a1 a2) else (zGetR a0 34 4 (fun v28 => zGaI 0 v28 a2 (fun v32 => if v32 = a1 then (zGetR a0 34 6 (fun v38 => if a1 = 0 then (s_X6_sizes_60 E k2 (s_X6_sizes_11 E k2 n) a0 a1 a2 v38 a2 (1 : Int32)) else (zGetR a0 34 5 (fun v52 => zGaI 0 v52 a2 (fun v56 => zC (zRv a0 [(34, fun b => s_X6_sizeBy E (some b) v56)]) zThr (zKI (fun v57 => s_X6_sizes_60 E k2 (s_X6_sizes_11 E k2 n) a0 a1 a2 v38 a2 v57))))))) else (s_X6_sizes_61 E k2 (s_X6_sizes_11 E k2 n) a0 a1 a2)))))))
theorem w_X6_sizes_11 (x : zCx p l R s m args meth c E D tA cX6_sizes 3 yX6_sizes.cls 15) (hl : l.stackTraces = false) (hret : meth.sig.returnType = (Option.none : Option Jvm.ClassFile.FieldType)) (hnm : meth.name = yX6_sizes.name) (htab : ∀ z ∈ c.exceptionTable.toList, False) {k2 : Option Nat → Int32 → zM} (h2 : ∀ (a0 : Option Nat) (a1 : Int32) , zW p l e R s m args below meth c E D tA 3 k0 (k2 a0 a1) [(0, zP a0), (1, zI a1)] 2 []) : ∀ (n : Nat) (a0 : Option Nat) (a1 : Int32) (a2 : Int32), zW p l e R s m args below meth c E D tA 3 k0 (s_X6_sizes_11 E k2 n a0 a1 a2) [(0, zP a0), (1, zI a1), (2, zI a2)] 11 [] := by
  intro n
  induction n with
  | zero => intro a0 a1 a2; exact z_fail
  | succ n h11 =>
    intro a0 a1 a2
    rw [s_X6_sizes_11]
    refine z_iload_n (pc := 11) x 2 dX6_sizes_11 rfl rfl ?_
    refine z_sipush (pc := 12) x (v := (440 : Int32)) dX6_sizes_12 rfl ?_
    refine z_icmp_ge (pc := 15) (tgt := 67) x dX6_sizes_15 rfl (fun _ => ?_) (fun _ => ?_)
    · refine z_iinc (pc := 67) (lv' := [(1, zI (a1 + (1 : Int32))), (0, zP a0), (2, zI a2)]) x (v2 := (a1 + (1 : Int32))) 1 dX6_sizes_67 rfl rfl (Nat.le_of_ble_eq_true rfl) rfl ?_
      refine z_goto (pc := 70) (tgt := 2) x dX6_sizes_70 rfl ?_
      exact z_sub [1, 0] rfl (h2 a0 (a1 + (1 : Int32)))
    · refine z_aload_n (pc := 18) x 0 dX6_sizes_18 rfl rfl ?_
      refine z_get (pc := 19) (fun _ _ h => zAsR_eq h) x in_X6 (ci := 34) rfl (k := 9) (by decide) q2794 (fun _ h => h) dX6_sizes_19 fun v19 => ?_
      refine z_iload_n (pc := 22) x 2 dX6_sizes_22 rfl rfl ?_
      refine z_zald (pc := 23) x (t := 2) rfl dX6_sizes_23 fun v23 => ?_
      refine z_if_eq (pc := 24) (tgt := 61) x dX6_sizes_24 rfl (fun _ => ?_) (fun _ => ?_)
      · exact z_sub [0, 1, 2] rfl (w_X6_sizes_61 x hl hret hnm htab h2 h11 a0 a1 a2)
      · refine z_aload_n (pc := 27) x 0 dX6_sizes_27 rfl rfl ?_
        refine z_get (pc := 28) (fun _ _ h => zAsR_eq h) x in_X6 (ci := 34) rfl (k := 4) (by decide) q2789 (fun _ h => h) dX6_sizes_28 fun v28 => ?_
        refine z_iload_n (pc := 31) x 2 dX6_sizes_31 rfl rfl ?_
        refine z_iald (pc := 32) x (t := 0) rfl dX6_sizes_32 fun v32 => ?_
        refine z_iload_n (pc := 33) x 1 dX6_sizes_33 rfl rfl ?_
        refine z_icmp_ne (pc := 34) (tgt := 61) x dX6_sizes_34 rfl (fun _ => ?_) (fun _ => ?_)
        · refine z_aload_n (pc := 37) x 0 dX6_sizes_37 rfl rfl ?_
          refine z_get (pc := 38) (fun _ _ h => zAsR_eq h) x in_X6 (ci := 34) rfl (k := 6) (by decide) q2791 (fun _ h => h) dX6_sizes_38 fun v38 => ?_
          refine z_iload_n (pc := 41) x 2 dX6_sizes_41 rfl rfl ?_
          refine z_iload_n (pc := 42) x 1 dX6_sizes_42 rfl rfl ?_
          refine z_if_ne (pc := 43) (tgt := 50) x dX6_sizes_43 rfl (fun _ => ?_) (fun _ => ?_)
          · refine z_iconst (pc := 46) x (v := (1 : Int32)) dX6_sizes_46 rfl ?_
            refine z_goto (pc := 47) (tgt := 60) x dX6_sizes_47 rfl ?_
            exact z_sub [0, 1, 2] rfl (w_X6_sizes_60 x hl hret hnm htab h2 h11 a0 a1 a2 v38 a2 (1 : Int32))
          · refine z_aload_n (pc := 50) x 0 dX6_sizes_50 rfl rfl ?_
            refine z_aload_n (pc := 51) x 0 dX6_sizes_51 rfl rfl ?_
            refine z_get (pc := 52) (fun _ _ h => zAsR_eq h) x in_X6 (ci := 34) rfl (k := 5) (by decide) q2790 (fun _ h => h) dX6_sizes_52 fun v52 => ?_
            refine z_iload_n (pc := 55) x 2 dX6_sizes_55 rfl rfl ?_
            refine z_iald (pc := 56) x (t := 0) rfl dX6_sizes_56 fun v56 => ?_
            refine z_call (pc := 57) (z_canV (pc := 57) (As := [zI v56]) (st := [zI a2, zP v38]) x (ci := 34) rfl (fun b => m_X6_sizeBy hl (some b) v56) q3105 q3107 (z_selP x (ci := 34) rfl (by decide) (zNi_inst x q2780) q3106 q3107) q121 q3108 n_X6_sizeBy ⟨by decide, by decide⟩ (Nat.le_of_ble_eq_true rfl) dX6_sizes_57) (zv_I fun v57 => ?_) (fun q => zx_thr x (fun z hz => (htab z hz).elim) q)
            exact z_sub [0, 1, 2] rfl (w_X6_sizes_60 x hl hret hnm htab h2 h11 a0 a1 a2 v38 a2 v57)
        · exact z_sub [0, 1, 2] rfl (w_X6_sizes_61 x hl hret hnm htab h2 h11 a0 a1 a2)
def s_X6_sizes_2 (E : zE) : Nat → Option Nat → Int32 → zM
  | 0, _, _ => zFail
  | n + 1, a0, a1 => if (441 : Int32) ≤ a1 then (zRet none) else (s_X6_sizes_11 E (s_X6_sizes_2 E n) zN a0 a1 (0 : Int32))
theorem w_X6_sizes_2 (x : zCx p l R s m args meth c E D tA cX6_sizes 3 yX6_sizes.cls 15) (hl : l.stackTraces = false) (hret : meth.sig.returnType = (Option.none : Option Jvm.ClassFile.FieldType)) (hnm : meth.name = yX6_sizes.name) (htab : ∀ z ∈ c.exceptionTable.toList, False) : ∀ (n : Nat) (a0 : Option Nat) (a1 : Int32), zW p l e R s m args below meth c E D tA 3 k0 (s_X6_sizes_2 E n a0 a1) [(0, zP a0), (1, zI a1)] 2 [] := by
  intro n
  induction n with
  | zero => intro a0 a1; exact z_fail
  | succ n h2 =>
    intro a0 a1
    rw [s_X6_sizes_2]
    refine z_iload_n (pc := 2) x 1 dX6_sizes_2 rfl rfl ?_
    refine z_sipush (pc := 3) x (v := (441 : Int32)) dX6_sizes_3 rfl ?_
    refine z_icmp_ge (pc := 6) (tgt := 73) x dX6_sizes_6 rfl (fun _ => ?_) (fun _ => ?_)
    · exact z_vret (pc := 73) x hret dX6_sizes_73
    · refine z_iconst (pc := 9) x (v := (0 : Int32)) dX6_sizes_9 rfl ?_
      refine z_istore_n (pc := 10) (lv' := [(2, zI (0 : Int32)), (0, zP a0), (1, zI a1)]) x dX6_sizes_10 rfl (Nat.le_of_ble_eq_true rfl) rfl ?_
      exact z_sub [1, 2, 0] rfl (w_X6_sizes_11 x hl hret hnm htab h2 zN a0 a1 (0 : Int32))
def s_X6_sizes (E : zE) (a0 : Option Nat) : zM := s_X6_sizes_2 E zN a0 (0 : Int32)
theorem m_X6_sizes {l : Launch} {E : zE} {D : va_G} {tA : Nat → ClassId} (hl : l.stackTraces = false) (a0 : Option Nat) : zMet l E D tA yX6_sizes (ws_ yX6_sizes cX6_sizes 3 (Option.none : Option Jvm.ClassFile.FieldType)) 15 (s_X6_sizes E a0) [zP a0] := by
  refine z_met hl (by decide +kernel) (by rw [zSl_len]; exact (Nat.le_of_ble_eq_true rfl)) fun p e R s m args below meth c k0 x hret hnm htab => ?_
  refine z_lv [(0, zP a0)] rfl ?_
  unfold s_X6_sizes
  refine z_iconst (pc := 0) x (v := (0 : Int32)) dX6_sizes_0 rfl ?_
  refine z_istore_n (pc := 1) (lv' := [(1, zI (0 : Int32)), (0, zP a0)]) x dX6_sizes_1 rfl (Nat.le_of_ble_eq_true rfl) rfl ?_
  exact z_sub [1, 0] rfl (w_X6_sizes_2 x hl hret hnm htab zN a0 (0 : Int32))
/-! X6_proofSize -/
def s_X6_proofSize (E : zE) (a0 : Option Nat) (a1 : Int32) (a2 : Int32) (a3 : Int32) : zM := zC (zRv a0 [(34, fun b => s_X6_isNotTrue E (some b) a1 a2 a3)]) zThr (zKI (fun v4 => if v4 = 0 then (zC (zRv a0 [(34, fun b => s_X6_sizes E (some b))]) zThr (zKV (zGetR a0 34 6 (fun v17 => zC (s_X6_factOf E a1 a2 a3) zThr (zKI (fun v23 => zGaI 0 v17 v23 (fun v26 => zRet (some (.long ((v26).toInt64)))))))))) else (zRet (some (.long (0 : Int64))))))
theorem m_X6_proofSize {l : Launch} {E : zE} {D : va_G} {tA : Nat → ClassId} (hl : l.stackTraces = false) (a0 : Option Nat) (a1 : Int32) (a2 : Int32) (a3 : Int32) : zMet l E D tA yX6_proofSize (ws_ yX6_proofSize cX6_proofSize 4 (Option.some Jvm.ClassFile.FieldType.long)) 19 (s_X6_proofSize E a0 a1 a2 a3) [zP a0, zI a1, zI a2, zI a3] := by
  refine z_met hl (by decide +kernel) (by rw [zSl_len]; exact (Nat.le_of_ble_eq_true rfl)) fun p e R s m args below meth c k0 x hret hnm htab => ?_
  refine z_lv [(0, zP a0), (1, zI a1), (2, zI a2), (3, zI a3)] rfl ?_
  unfold s_X6_proofSize
  refine z_aload_n (pc := 0) x 0 dX6_proofSize_0 rfl rfl ?_
  refine z_iload_n (pc := 1) x 1 dX6_proofSize_1 rfl rfl ?_
  refine z_iload_n (pc := 2) x 2 dX6_proofSize_2 rfl rfl ?_
  refine z_iload_n (pc := 3) x 3 dX6_proofSize_3 rfl rfl ?_
  refine z_call (pc := 4) (z_canV (pc := 4) (As := [zI a1, zI a2, zI a3]) (st := []) x (ci := 34) rfl (fun b => m_X6_isNotTrue hl (some b) a1 a2 a3) q3084 q3086 (z_selP x (ci := 34) rfl (by decide) (zNi_inst x q2780) q3085 q3086) q121 q3087 n_X6_isNotTrue ⟨by decide, by decide⟩ (Nat.le_of_ble_eq_true rfl) dX6_proofSize_4) (zv_I fun v4 => ?_) (fun q => zx_thr x (fun z hz => (htab z hz).elim) q)
  refine z_if_eq (pc := 7) (tgt := 12) x dX6_proofSize_7 rfl (fun _ => ?_) (fun _ => ?_)
  · refine z_aload_n (pc := 12) x 0 dX6_proofSize_12 rfl rfl ?_
    refine z_call (pc := 13) (z_canV (pc := 13) (As := []) (st := []) x (ci := 34) rfl (fun b => m_X6_sizes hl (some b)) q3101 q3103 (z_selP x (ci := 34) rfl (by decide) (zNi_inst x q2780) q3102 q3103) q121 q3104 n_X6_sizes ⟨by decide, by decide⟩ (Nat.le_of_ble_eq_true rfl) dX6_proofSize_13) (zv_V ?_) (fun q => zx_thr x (fun z hz => (htab z hz).elim) q)
    refine z_aload_n (pc := 16) x 0 dX6_proofSize_16 rfl rfl ?_
    refine z_get (pc := 17) (fun _ _ h => zAsR_eq h) x in_X6 (ci := 34) rfl (k := 6) (by decide) q2791 (fun _ h => h) dX6_proofSize_17 fun v17 => ?_
    refine z_iload_n (pc := 20) x 1 dX6_proofSize_20 rfl rfl ?_
    refine z_iload_n (pc := 21) x 2 dX6_proofSize_21 rfl rfl ?_
    refine z_iload_n (pc := 22) x 3 dX6_proofSize_22 rfl rfl ?_
    refine z_call (pc := 23) (z_canS (pc := 23) (As := [zI a1, zI a2, zI a3]) (st := [zP v17]) x (m_X6_factOf hl a1 a2 a3) q2902 q2903 q121 q2904 n_X6_factOf ⟨by decide, by decide⟩ (Nat.le_of_ble_eq_true rfl) dX6_proofSize_23) (zv_I fun v23 => ?_) (fun q => zx_thr x (fun z hz => (htab z hz).elim) q)
    refine z_iald (pc := 26) x (t := 0) rfl dX6_proofSize_26 fun v26 => ?_
    refine z_i2l (pc := 27) x dX6_proofSize_27 ?_
    exact z_lret (pc := 28) x hret dX6_proofSize_28
  · refine z_lconst (pc := 10) x (v := (0 : Int64)) dX6_proofSize_10 rfl ?_
    exact z_lret (pc := 11) x hret dX6_proofSize_11
/-! X6_isGoal -/
def s_X6_isGoal_22 (E : zE) (a0 : Int32) (a2 : Int32) (b0 : Int32) : zM := if b0 = 0 then (zRetN .boolean (0 : Int32)) else (if (101 : Int32) ≤ a0 then (if a2 = (-1 : Int32) then (zRetN .boolean (1 : Int32)) else (zRetN .boolean (0 : Int32))) else (zC (s_X6_isIn E a2 (-1 : Int32) (9 : Int32)) zThr (zKI (fun v37 => if v37 = 0 then (zRetN .boolean (0 : Int32)) else (zRetN .boolean (1 : Int32))))))
theorem w_X6_isGoal_22 (x : zCx p l R s m args meth c E D tA cX6_isGoal 4 yX6_isGoal.cls 11) (hl : l.stackTraces = false) (hret : meth.sig.returnType = (Option.some Jvm.ClassFile.FieldType.boolean)) (hnm : meth.name = yX6_isGoal.name) (htab : ∀ z ∈ c.exceptionTable.toList, False) (a0 : Int32) (a2 : Int32) (b0 : Int32) : zW p l e R s m args below meth c E D tA 4 k0 (s_X6_isGoal_22 E a0 a2 b0) [(0, zI a0), (2, zI a2)] 22 [zI b0] := by
  unfold s_X6_isGoal_22
  refine z_istore_n (pc := 22) (lv' := [(3, zI b0), (0, zI a0), (2, zI a2)]) x dX6_isGoal_22 rfl (Nat.le_of_ble_eq_true rfl) rfl ?_
  refine z_iload_n (pc := 23) x 0 dX6_isGoal_23 rfl rfl ?_
  refine z_if_eq (pc := 24) (tgt := 55) x dX6_isGoal_24 rfl (fun _ => ?_) (fun _ => ?_)
  · refine z_iconst (pc := 55) x (v := (0 : Int32)) dX6_isGoal_55 rfl ?_
    exact z_zret (pc := 56) x hret dX6_isGoal_56
  · refine z_iload_n (pc := 27) x 1 dX6_isGoal_27 rfl rfl ?_
    refine z_bipush (pc := 28) x (v := (101 : Int32)) dX6_isGoal_28 rfl ?_
    refine z_icmp_ge (pc := 30) (tgt := 46) x dX6_isGoal_30 rfl (fun _ => ?_) (fun _ => ?_)
    · refine z_iload_n (pc := 46) x 2 dX6_isGoal_46 rfl rfl ?_
      refine z_iconst (pc := 47) x (v := (-1 : Int32)) dX6_isGoal_47 rfl ?_
      refine z_icmp_ne (pc := 48) (tgt := 55) x dX6_isGoal_48 rfl (fun _ => ?_) (fun _ => ?_)
      · refine z_iconst (pc := 51) x (v := (1 : Int32)) dX6_isGoal_51 rfl ?_
        refine z_goto (pc := 52) (tgt := 56) x dX6_isGoal_52 rfl ?_
        exact z_zret (pc := 56) x hret dX6_isGoal_56
      · refine z_iconst (pc := 55) x (v := (0 : Int32)) dX6_isGoal_55 rfl ?_
        exact z_zret (pc := 56) x hret dX6_isGoal_56
    · refine z_iload_n (pc := 33) x 2 dX6_isGoal_33 rfl rfl ?_
      refine z_iconst (pc := 34) x (v := (-1 : Int32)) dX6_isGoal_34 rfl ?_
      refine z_bipush (pc := 35) x (v := (9 : Int32)) dX6_isGoal_35 rfl ?_
      refine z_call (pc := 37) (z_canS (pc := 37) (As := [zI a2, zI (-1 : Int32), zI (9 : Int32)]) (st := []) x (m_X6_isIn hl a2 (-1 : Int32) (9 : Int32)) q2895 q2896 q121 q2897 n_X6_isIn ⟨by decide, by decide⟩ (Nat.le_of_ble_eq_true rfl) dX6_isGoal_37) (zv_I fun v37 => ?_) (fun q => zx_thr x (fun z hz => (htab z hz).elim) q)
      refine z_if_eq (pc := 40) (tgt := 55) x dX6_isGoal_40 rfl (fun _ => ?_) (fun _ => ?_)
      · refine z_iconst (pc := 55) x (v := (0 : Int32)) dX6_isGoal_55 rfl ?_
        exact z_zret (pc := 56) x hret dX6_isGoal_56
      · refine z_goto (pc := 43) (tgt := 51) x dX6_isGoal_43 rfl ?_
        refine z_iconst (pc := 51) x (v := (1 : Int32)) dX6_isGoal_51 rfl ?_
        refine z_goto (pc := 52) (tgt := 56) x dX6_isGoal_52 rfl ?_
        exact z_zret (pc := 56) x hret dX6_isGoal_56
def s_X6_isGoal_21 (E : zE) (a0 : Int32) (a2 : Int32) : zM := s_X6_isGoal_22 E a0 a2 (0 : Int32)
theorem w_X6_isGoal_21 (x : zCx p l R s m args meth c E D tA cX6_isGoal 4 yX6_isGoal.cls 11) (hl : l.stackTraces = false) (hret : meth.sig.returnType = (Option.some Jvm.ClassFile.FieldType.boolean)) (hnm : meth.name = yX6_isGoal.name) (htab : ∀ z ∈ c.exceptionTable.toList, False) (a0 : Int32) (a2 : Int32) : zW p l e R s m args below meth c E D tA 4 k0 (s_X6_isGoal_21 E a0 a2) [(0, zI a0), (2, zI a2)] 21 [] := by
  unfold s_X6_isGoal_21
  refine z_iconst (pc := 21) x (v := (0 : Int32)) dX6_isGoal_21 rfl ?_
  exact z_sub [0, 1] rfl (w_X6_isGoal_22 x hl hret hnm htab a0 a2 (0 : Int32))
def s_X6_isGoal (E : zE) (a0 : Int32) (a1 : Int32) (a2 : Int32) : zM := zC (s_X6_isPredicate E a0) zThr (zKI (fun v1 => if v1 = 0 then (s_X6_isGoal_21 E a0 a2) else (zC (s_X6_isIn E a1 (-1 : Int32) (9 : Int32)) zThr (zKI (fun v11 => if v11 = 0 then (s_X6_isGoal_21 E a0 a2) else (s_X6_isGoal_22 E a0 a2 (1 : Int32)))))))
theorem m_X6_isGoal {l : Launch} {E : zE} {D : va_G} {tA : Nat → ClassId} (hl : l.stackTraces = false) (a0 : Int32) (a1 : Int32) (a2 : Int32) : zMet l E D tA yX6_isGoal (ws_ yX6_isGoal cX6_isGoal 4 (Option.some Jvm.ClassFile.FieldType.boolean)) 11 (s_X6_isGoal E a0 a1 a2) [zI a0, zI a1, zI a2] := by
  refine z_met hl (by decide +kernel) (by rw [zSl_len]; exact (Nat.le_of_ble_eq_true rfl)) fun p e R s m args below meth c k0 x hret hnm htab => ?_
  refine z_lv [(0, zI a0), (1, zI a1), (2, zI a2)] rfl ?_
  unfold s_X6_isGoal
  refine z_iload_n (pc := 0) x 0 dX6_isGoal_0 rfl rfl ?_
  refine z_call (pc := 1) (z_canS (pc := 1) (As := [zI a0]) (st := []) x (m_X6_isPredicate hl a0) q2892 q2893 q121 q2894 n_X6_isPredicate ⟨by decide, by decide⟩ (Nat.le_of_ble_eq_true rfl) dX6_isGoal_1) (zv_I fun v1 => ?_) (fun q => zx_thr x (fun z hz => (htab z hz).elim) q)
  refine z_if_eq (pc := 4) (tgt := 21) x dX6_isGoal_4 rfl (fun _ => ?_) (fun _ => ?_)
  · exact z_sub [0, 2] rfl (w_X6_isGoal_21 x hl hret hnm htab a0 a2)
  · refine z_iload_n (pc := 7) x 1 dX6_isGoal_7 rfl rfl ?_
    refine z_iconst (pc := 8) x (v := (-1 : Int32)) dX6_isGoal_8 rfl ?_
    refine z_bipush (pc := 9) x (v := (9 : Int32)) dX6_isGoal_9 rfl ?_
    refine z_call (pc := 11) (z_canS (pc := 11) (As := [zI a1, zI (-1 : Int32), zI (9 : Int32)]) (st := []) x (m_X6_isIn hl a1 (-1 : Int32) (9 : Int32)) q2895 q2896 q121 q2897 n_X6_isIn ⟨by decide, by decide⟩ (Nat.le_of_ble_eq_true rfl) dX6_isGoal_11) (zv_I fun v11 => ?_) (fun q => zx_thr x (fun z hz => (htab z hz).elim) q)
    refine z_if_eq (pc := 14) (tgt := 21) x dX6_isGoal_14 rfl (fun _ => ?_) (fun _ => ?_)
    · exact z_sub [0, 2] rfl (w_X6_isGoal_21 x hl hret hnm htab a0 a2)
    · refine z_iconst (pc := 17) x (v := (1 : Int32)) dX6_isGoal_17 rfl ?_
      refine z_goto (pc := 18) (tgt := 22) x dX6_isGoal_18 rfl ?_
      exact z_sub [0, 2] rfl (w_X6_isGoal_22 x hl hret hnm htab a0 a2 (1 : Int32))
/-! X6_predicate -/
def s_X6_predicate (E : zE) (a0 : Int32) : zM := if (400 : Int32) ≤ a0 then (zDiv (a0 - (400 : Int32)) (10 : Int32) (fun v22 => zRet (some (.int ((4 : Int32) + v22))))) else (zDiv a0 (100 : Int32) (fun v10 => zRet (some (.int v10))))
theorem m_X6_predicate {l : Launch} {E : zE} {D : va_G} {tA : Nat → ClassId} (hl : l.stackTraces = false) (a0 : Int32) : zMet l E D tA yX6_predicate (ws_ yX6_predicate cX6_predicate 1 (Option.some Jvm.ClassFile.FieldType.int)) 9 (s_X6_predicate E a0) [zI a0] := by
  refine z_met hl (by decide +kernel) (by rw [zSl_len]; exact (Nat.le_of_ble_eq_true rfl)) fun p e R s m args below meth c k0 x hret hnm htab => ?_
  refine z_lv [(0, zI a0)] rfl ?_
  unfold s_X6_predicate
  refine z_iload_n (pc := 0) x 0 dX6_predicate_0 rfl rfl ?_
  refine z_sipush (pc := 1) x (v := (400 : Int32)) dX6_predicate_1 rfl ?_
  refine z_icmp_ge (pc := 4) (tgt := 14) x dX6_predicate_4 rfl (fun _ => ?_) (fun _ => ?_)
  · refine z_iconst (pc := 14) x (v := (4 : Int32)) dX6_predicate_14 rfl ?_
    refine z_iload_n (pc := 15) x 0 dX6_predicate_15 rfl rfl ?_
    refine z_sipush (pc := 16) x (v := (400 : Int32)) dX6_predicate_16 rfl ?_
    refine z_isub (pc := 19) x dX6_predicate_19 ?_
    refine z_bipush (pc := 20) x (v := (10 : Int32)) dX6_predicate_20 rfl ?_
    refine z_idiv (pc := 22) x dX6_predicate_22 fun v22 => ?_
    refine z_iadd (pc := 23) x dX6_predicate_23 ?_
    exact z_iret (pc := 24) x hret dX6_predicate_24
  · refine z_iload_n (pc := 7) x 0 dX6_predicate_7 rfl rfl ?_
    refine z_bipush (pc := 8) x (v := (100 : Int32)) dX6_predicate_8 rfl ?_
    refine z_idiv (pc := 10) x dX6_predicate_10 fun v10 => ?_
    refine z_goto (pc := 11) (tgt := 24) x dX6_predicate_11 rfl ?_
    exact z_iret (pc := 24) x hret dX6_predicate_24
/-! X6_isAnswer -/
def s_X6_isAnswer_61 (E : zE) (a1 : Int32) (a4 : Int32) : zM := if a4 < 0 then (zRetN .boolean (1 : Int32)) else (zRem a1 (10 : Int32) (fun v69 => if v69 = a4 then (zRetN .boolean (1 : Int32)) else (zRetN .boolean (0 : Int32))))
theorem w_X6_isAnswer_61 (x : zCx p l R s m args meth c E D tA cX6_isAnswer 5 yX6_isAnswer.cls 10) (hl : l.stackTraces = false) (hret : meth.sig.returnType = (Option.some Jvm.ClassFile.FieldType.boolean)) (hnm : meth.name = yX6_isAnswer.name) (htab : ∀ z ∈ c.exceptionTable.toList, False) (a1 : Int32) (a4 : Int32) : zW p l e R s m args below meth c E D tA 5 k0 (s_X6_isAnswer_61 E a1 a4) [(1, zI a1), (4, zI a4)] 61 [] := by
  unfold s_X6_isAnswer_61
  refine z_iload (pc := 61) x 1 dX6_isAnswer_61 rfl ?_
  refine z_if_lt (pc := 63) (tgt := 75) x dX6_isAnswer_63 rfl (fun _ => ?_) (fun _ => ?_)
  · refine z_iconst (pc := 75) x (v := (1 : Int32)) dX6_isAnswer_75 rfl ?_
    refine z_goto (pc := 76) (tgt := 80) x dX6_isAnswer_76 rfl ?_
    exact z_zret (pc := 80) x hret dX6_isAnswer_80
  · refine z_iload_n (pc := 66) x 0 dX6_isAnswer_66 rfl rfl ?_
    refine z_bipush (pc := 67) x (v := (10 : Int32)) dX6_isAnswer_67 rfl ?_
    refine z_irem (pc := 69) x dX6_isAnswer_69 fun v69 => ?_
    refine z_iload (pc := 70) x 1 dX6_isAnswer_70 rfl ?_
    refine z_icmp_ne (pc := 72) (tgt := 79) x dX6_isAnswer_72 rfl (fun _ => ?_) (fun _ => ?_)
    · refine z_iconst (pc := 75) x (v := (1 : Int32)) dX6_isAnswer_75 rfl ?_
      refine z_goto (pc := 76) (tgt := 80) x dX6_isAnswer_76 rfl ?_
      exact z_zret (pc := 80) x hret dX6_isAnswer_80
    · refine z_iconst (pc := 79) x (v := (0 : Int32)) dX6_isAnswer_79 rfl ?_
      exact z_zret (pc := 80) x hret dX6_isAnswer_80
def s_X6_isAnswer (E : zE) (a0 : Option Nat) (a1 : Int32) (a2 : Int32) (a3 : Int32) (a4 : Int32) : zM := zGetR a0 34 9 (fun v1 => zGaI 2 v1 a1 (fun v5 => if v5 = 0 then (zRetN .boolean (0 : Int32)) else (zC (s_X6_predicate E a1) zThr (zKI (fun v10 => if v10 = (a2 - (97 : Int32)) then (if a2 < (101 : Int32) then (if a3 < 0 then (s_X6_isAnswer_61 E a1 a4) else (zDiv a1 (10 : Int32) (fun v53 => zRem v53 (10 : Int32) (fun v56 => if v56 = a3 then (s_X6_isAnswer_61 E a1 a4) else (zRetN .boolean (0 : Int32)))))) else (if a3 < 0 then (zRetN .boolean (1 : Int32)) else (zRem a1 (10 : Int32) (fun v35 => if v35 = a3 then (zRetN .boolean (1 : Int32)) else (zRetN .boolean (0 : Int32)))))) else (zRetN .boolean (0 : Int32)))))))
theorem m_X6_isAnswer {l : Launch} {E : zE} {D : va_G} {tA : Nat → ClassId} (hl : l.stackTraces = false) (a0 : Option Nat) (a1 : Int32) (a2 : Int32) (a3 : Int32) (a4 : Int32) : zMet l E D tA yX6_isAnswer (ws_ yX6_isAnswer cX6_isAnswer 5 (Option.some Jvm.ClassFile.FieldType.boolean)) 10 (s_X6_isAnswer E a0 a1 a2 a3 a4) [zP a0, zI a1, zI a2, zI a3, zI a4] := by
  refine z_met hl (by decide +kernel) (by rw [zSl_len]; exact (Nat.le_of_ble_eq_true rfl)) fun p e R s m args below meth c k0 x hret hnm htab => ?_
  refine z_lv [(0, zP a0), (1, zI a1), (2, zI a2), (3, zI a3), (4, zI a4)] rfl ?_
  unfold s_X6_isAnswer
  refine z_aload_n (pc := 0) x 0 dX6_isAnswer_0 rfl rfl ?_
  refine z_get (pc := 1) (fun _ _ h => zAsR_eq h) x in_X6 (ci := 34) rfl (k := 9) (by decide) q2794 (fun _ h => h) dX6_isAnswer_1 fun v1 => ?_
  refine z_iload_n (pc := 4) x 1 dX6_isAnswer_4 rfl rfl ?_
  refine z_zald (pc := 5) x (t := 2) rfl dX6_isAnswer_5 fun v5 => ?_
  refine z_if_eq (pc := 6) (tgt := 20) x dX6_isAnswer_6 rfl (fun _ => ?_) (fun _ => ?_)
  · refine z_iconst (pc := 20) x (v := (0 : Int32)) dX6_isAnswer_20 rfl ?_
    exact z_zret (pc := 21) x hret dX6_isAnswer_21
  · refine z_iload_n (pc := 9) x 1 dX6_isAnswer_9 rfl rfl ?_
    refine z_call (pc := 10) (z_canS (pc := 10) (As := [zI a1]) (st := []) x (m_X6_predicate hl a1) q3122 q3123 q121 q3124 n_X6_predicate ⟨by decide, by decide⟩ (Nat.le_of_ble_eq_true rfl) dX6_isAnswer_10) (zv_I fun v10 => ?_) (fun q => zx_thr x (fun z hz => (htab z hz).elim) q)
    refine z_iload_n (pc := 13) x 2 dX6_isAnswer_13 rfl rfl ?_
    refine z_bipush (pc := 14) x (v := (97 : Int32)) dX6_isAnswer_14 rfl ?_
    refine z_isub (pc := 16) x dX6_isAnswer_16 ?_
    refine z_icmp_eq (pc := 17) (tgt := 22) x dX6_isAnswer_17 rfl (fun _ => ?_) (fun _ => ?_)
    · refine z_iload_n (pc := 22) x 2 dX6_isAnswer_22 rfl rfl ?_
      refine z_bipush (pc := 23) x (v := (101 : Int32)) dX6_isAnswer_23 rfl ?_
      refine z_icmp_lt (pc := 25) (tgt := 46) x dX6_isAnswer_25 rfl (fun _ => ?_) (fun _ => ?_)
      · refine z_iload_n (pc := 46) x 3 dX6_isAnswer_46 rfl rfl ?_
        refine z_if_lt (pc := 47) (tgt := 61) x dX6_isAnswer_47 rfl (fun _ => ?_) (fun _ => ?_)
        · exact z_sub [1, 4] rfl (w_X6_isAnswer_61 x hl hret hnm htab a1 a4)
        · refine z_iload_n (pc := 50) x 1 dX6_isAnswer_50 rfl rfl ?_
          refine z_bipush (pc := 51) x (v := (10 : Int32)) dX6_isAnswer_51 rfl ?_
          refine z_idiv (pc := 53) x dX6_isAnswer_53 fun v53 => ?_
          refine z_bipush (pc := 54) x (v := (10 : Int32)) dX6_isAnswer_54 rfl ?_
          refine z_irem (pc := 56) x dX6_isAnswer_56 fun v56 => ?_
          refine z_iload_n (pc := 57) x 3 dX6_isAnswer_57 rfl rfl ?_
          refine z_icmp_ne (pc := 58) (tgt := 79) x dX6_isAnswer_58 rfl (fun _ => ?_) (fun _ => ?_)
          · exact z_sub [1, 4] rfl (w_X6_isAnswer_61 x hl hret hnm htab a1 a4)
          · refine z_iconst (pc := 79) x (v := (0 : Int32)) dX6_isAnswer_79 rfl ?_
            exact z_zret (pc := 80) x hret dX6_isAnswer_80
      · refine z_iload_n (pc := 28) x 3 dX6_isAnswer_28 rfl rfl ?_
        refine z_if_lt (pc := 29) (tgt := 40) x dX6_isAnswer_29 rfl (fun _ => ?_) (fun _ => ?_)
        · refine z_iconst (pc := 40) x (v := (1 : Int32)) dX6_isAnswer_40 rfl ?_
          refine z_goto (pc := 41) (tgt := 45) x dX6_isAnswer_41 rfl ?_
          exact z_zret (pc := 45) x hret dX6_isAnswer_45
        · refine z_iload_n (pc := 32) x 1 dX6_isAnswer_32 rfl rfl ?_
          refine z_bipush (pc := 33) x (v := (10 : Int32)) dX6_isAnswer_33 rfl ?_
          refine z_irem (pc := 35) x dX6_isAnswer_35 fun v35 => ?_
          refine z_iload_n (pc := 36) x 3 dX6_isAnswer_36 rfl rfl ?_
          refine z_icmp_ne (pc := 37) (tgt := 44) x dX6_isAnswer_37 rfl (fun _ => ?_) (fun _ => ?_)
          · refine z_iconst (pc := 40) x (v := (1 : Int32)) dX6_isAnswer_40 rfl ?_
            refine z_goto (pc := 41) (tgt := 45) x dX6_isAnswer_41 rfl ?_
            exact z_zret (pc := 45) x hret dX6_isAnswer_45
          · refine z_iconst (pc := 44) x (v := (0 : Int32)) dX6_isAnswer_44 rfl ?_
            exact z_zret (pc := 45) x hret dX6_isAnswer_45
    · refine z_iconst (pc := 20) x (v := (0 : Int32)) dX6_isAnswer_20 rfl ?_
      exact z_zret (pc := 21) x hret dX6_isAnswer_21
/-! X6_answers -/
def s_X6_answers_61 (E : zE) (k34 : Option Nat → Int32 → Int32 → Int32 → Int32 → Int32 → zM) (a0 : Option Nat) (a1 : Int32) (a2 : Int32) (a3 : Int32) (a5 : Int32) (b0 : Int32) (b1 : Int32) : zM := k34 a0 a1 a2 a3 (b0 + b1) (a5 + (1 : Int32))
theorem w_X6_answers_61 (x : zCx p l R s m args meth c E D tA cX6_answers 6 yX6_answers.cls 18) (hl : l.stackTraces = false) (hret : meth.sig.returnType = (Option.some Jvm.ClassFile.FieldType.int)) (hnm : meth.name = yX6_answers.name) (htab : ∀ z ∈ c.exceptionTable.toList, False) {k34 : Option Nat → Int32 → Int32 → Int32 → Int32 → Int32 → zM} (h34 : ∀ (a0 : Option Nat) (a1 : Int32) (a2 : Int32) (a3 : Int32) (a4 : Int32) (a5 : Int32) , zW p l e R s m args below meth c E D tA 6 k0 (k34 a0 a1 a2 a3 a4 a5) [(0, zP a0), (1, zI a1), (2, zI a2), (3, zI a3), (4, zI a4), (5, zI a5)] 34 []) (a0 : Option Nat) (a1 : Int32) (a2 : Int32) (a3 : Int32) (a5 : Int32) (b0 : Int32) (b1 : Int32) : zW p l e R s m args below meth c E D tA 6 k0 (s_X6_answers_61 E k34 a0 a1 a2 a3 a5 b0 b1) [(0, zP a0), (1, zI a1), (2, zI a2), (3, zI a3), (5, zI a5)] 61 [zI b1, zI b0] := by
  unfold s_X6_answers_61
  refine z_iadd (pc := 61) x dX6_answers_61 ?_
  refine z_istore (pc := 62) (lv' := [(4, zI (b0 + b1)), (0, zP a0), (1, zI a1), (2, zI a2), (3, zI a3), (5, zI a5)]) x dX6_answers_62 (Nat.le_of_ble_eq_true rfl) rfl ?_
  refine z_iinc (pc := 64) (lv' := [(5, zI (a5 + (1 : Int32))), (4, zI (b0 + b1)), (0, zP a0), (1, zI a1), (2, zI a2), (3, zI a3)]) x (v2 := (a5 + (1 : Int32))) 5 dX6_answers_64 rfl rfl (Nat.le_of_ble_eq_true rfl) rfl ?_
  refine z_goto (pc := 67) (tgt := 34) x dX6_answers_67 rfl ?_
  exact z_sub [2, 3, 4, 5, 1, 0] rfl (h34 a0 a1 a2 a3 (b0 + b1) (a5 + (1 : Int32)))
def s_X6_answers_34 (E : zE) : Nat → Option Nat → Int32 → Int32 → Int32 → Int32 → Int32 → zM
  | 0, _, _, _, _, _, _ => zFail
  | n + 1, a0, a1, a2, a3, a4, a5 => if (440 : Int32) ≤ a5 then (zRet (some (.int a4))) else (zC (zRv a0 [(34, fun b => s_X6_isAnswer E (some b) a5 a1 a2 a3)]) zThr (zKI (fun v50 => if v50 = 0 then (s_X6_answers_61 E (s_X6_answers_34 E n) a0 a1 a2 a3 a5 a4 (0 : Int32)) else (s_X6_answers_61 E (s_X6_answers_34 E n) a0 a1 a2 a3 a5 a4 (1 : Int32)))))
theorem w_X6_answers_34 (x : zCx p l R s m args meth c E D tA cX6_answers 6 yX6_answers.cls 18) (hl : l.stackTraces = false) (hret : meth.sig.returnType = (Option.some Jvm.ClassFile.FieldType.int)) (hnm : meth.name = yX6_answers.name) (htab : ∀ z ∈ c.exceptionTable.toList, False) : ∀ (n : Nat) (a0 : Option Nat) (a1 : Int32) (a2 : Int32) (a3 : Int32) (a4 : Int32) (a5 : Int32), zW p l e R s m args below meth c E D tA 6 k0 (s_X6_answers_34 E n a0 a1 a2 a3 a4 a5) [(0, zP a0), (1, zI a1), (2, zI a2), (3, zI a3), (4, zI a4), (5, zI a5)] 34 [] := by
  intro n
  induction n with
  | zero => intro a0 a1 a2 a3 a4 a5; exact z_fail
  | succ n h34 =>
    intro a0 a1 a2 a3 a4 a5
    rw [s_X6_answers_34]
    refine z_iload (pc := 34) x 5 dX6_answers_34 rfl ?_
    refine z_sipush (pc := 36) x (v := (440 : Int32)) dX6_answers_36 rfl ?_
    refine z_icmp_ge (pc := 39) (tgt := 70) x dX6_answers_39 rfl (fun _ => ?_) (fun _ => ?_)
    · refine z_iload (pc := 70) x 4 dX6_answers_70 rfl ?_
      exact z_iret (pc := 72) x hret dX6_answers_72
    · refine z_iload (pc := 42) x 4 dX6_answers_42 rfl ?_
      refine z_aload_n (pc := 44) x 0 dX6_answers_44 rfl rfl ?_
      refine z_iload (pc := 45) x 5 dX6_answers_45 rfl ?_
      refine z_iload_n (pc := 47) x 1 dX6_answers_47 rfl rfl ?_
      refine z_iload_n (pc := 48) x 2 dX6_answers_48 rfl rfl ?_
      refine z_iload_n (pc := 49) x 3 dX6_answers_49 rfl rfl ?_
      refine z_call (pc := 50) (z_canV (pc := 50) (As := [zI a5, zI a1, zI a2, zI a3]) (st := [zI a4]) x (ci := 34) rfl (fun b => m_X6_isAnswer hl (some b) a5 a1 a2 a3) q3118 q3120 (z_selP x (ci := 34) rfl (by decide) (zNi_inst x q2780) q3119 q3120) q121 q3121 n_X6_isAnswer ⟨by decide, by decide⟩ (Nat.le_of_ble_eq_true rfl) dX6_answers_50) (zv_I fun v50 => ?_) (fun q => zx_thr x (fun z hz => (htab z hz).elim) q)
      refine z_if_eq (pc := 53) (tgt := 60) x dX6_answers_53 rfl (fun _ => ?_) (fun _ => ?_)
      · refine z_iconst (pc := 60) x (v := (0 : Int32)) dX6_answers_60 rfl ?_
        exact z_sub [0, 1, 2, 3, 5] rfl (w_X6_answers_61 x hl hret hnm htab h34 a0 a1 a2 a3 a5 a4 (0 : Int32))
      · refine z_iconst (pc := 56) x (v := (1 : Int32)) dX6_answers_56 rfl ?_
        refine z_goto (pc := 57) (tgt := 61) x dX6_answers_57 rfl ?_
        exact z_sub [0, 1, 2, 3, 5] rfl (w_X6_answers_61 x hl hret hnm htab h34 a0 a1 a2 a3 a5 a4 (1 : Int32))
def s_X6_answers_15 (E : zE) (a0 : Option Nat) (a1 : Int32) (a2 : Int32) (a3 : Int32) (b0 : Option Nat) (b1 : Int32) : zM := zC (zRv b0 [(34, fun b => s_X6_isThrown E (some b) b1 (1 : Int32))]) zThr (zKI (fun v16 => if v16 = 0 then (zC (zRv a0 [(34, fun b => s_X6_finds E (some b))]) zThr (zKV (s_X6_answers_34 E zN a0 a1 a2 a3 (0 : Int32) (0 : Int32)))) else (zRet (some (.int (0 : Int32))))))
theorem w_X6_answers_15 (x : zCx p l R s m args meth c E D tA cX6_answers 6 yX6_answers.cls 18) (hl : l.stackTraces = false) (hret : meth.sig.returnType = (Option.some Jvm.ClassFile.FieldType.int)) (hnm : meth.name = yX6_answers.name) (htab : ∀ z ∈ c.exceptionTable.toList, False) (a0 : Option Nat) (a1 : Int32) (a2 : Int32) (a3 : Int32) (b0 : Option Nat) (b1 : Int32) : zW p l e R s m args below meth c E D tA 6 k0 (s_X6_answers_15 E a0 a1 a2 a3 b0 b1) [(0, zP a0), (1, zI a1), (2, zI a2), (3, zI a3)] 15 [zI b1, zP b0] := by
  unfold s_X6_answers_15
  refine z_iconst (pc := 15) x (v := (1 : Int32)) dX6_answers_15 rfl ?_
  refine z_call (pc := 16) (z_canV (pc := 16) (As := [zI b1, zI (1 : Int32)]) (st := []) x (ci := 34) rfl (fun b => m_X6_isThrown hl (some b) b1 (1 : Int32)) q2898 q2900 (z_selP x (ci := 34) rfl (by decide) (zNi_inst x q2780) q2899 q2900) q121 q2901 n_X6_isThrown ⟨by decide, by decide⟩ (Nat.le_of_ble_eq_true rfl) dX6_answers_16) (zv_I fun v16 => ?_) (fun q => zx_thr x (fun z hz => (htab z hz).elim) q)
  refine z_if_eq (pc := 19) (tgt := 24) x dX6_answers_19 rfl (fun _ => ?_) (fun _ => ?_)
  · refine z_aload_n (pc := 24) x 0 dX6_answers_24 rfl rfl ?_
    refine z_call (pc := 25) (z_canV (pc := 25) (As := []) (st := []) x (ci := 34) rfl (fun b => m_X6_finds hl (some b)) q2923 q2925 (z_selP x (ci := 34) rfl (by decide) (zNi_inst x q2780) q2924 q2925) q121 q2926 n_X6_finds ⟨by decide, by decide⟩ (Nat.le_of_ble_eq_true rfl) dX6_answers_25) (zv_V ?_) (fun q => zx_thr x (fun z hz => (htab z hz).elim) q)
    refine z_iconst (pc := 28) x (v := (0 : Int32)) dX6_answers_28 rfl ?_
    refine z_istore (pc := 29) (lv' := [(4, zI (0 : Int32)), (0, zP a0), (1, zI a1), (2, zI a2), (3, zI a3)]) x dX6_answers_29 (Nat.le_of_ble_eq_true rfl) rfl ?_
    refine z_iconst (pc := 31) x (v := (0 : Int32)) dX6_answers_31 rfl ?_
    refine z_istore (pc := 32) (lv' := [(5, zI (0 : Int32)), (4, zI (0 : Int32)), (0, zP a0), (1, zI a1), (2, zI a2), (3, zI a3)]) x dX6_answers_32 (Nat.le_of_ble_eq_true rfl) rfl ?_
    exact z_sub [2, 3, 4, 5, 1, 0] rfl (w_X6_answers_34 x hl hret hnm htab zN a0 a1 a2 a3 (0 : Int32) (0 : Int32))
  · refine z_iconst (pc := 22) x (v := (0 : Int32)) dX6_answers_22 rfl ?_
    exact z_iret (pc := 23) x hret dX6_answers_23
def s_X6_answers (E : zE) (a0 : Option Nat) (a1 : Int32) (a2 : Int32) (a3 : Int32) : zM := zC (s_X6_isGoal E a1 a2 a3) zThr (zKI (fun v4 => if v4 = 0 then (s_X6_answers_15 E a0 a1 a2 a3 a0 (1 : Int32)) else (s_X6_answers_15 E a0 a1 a2 a3 a0 (0 : Int32))))
theorem m_X6_answers {l : Launch} {E : zE} {D : va_G} {tA : Nat → ClassId} (hl : l.stackTraces = false) (a0 : Option Nat) (a1 : Int32) (a2 : Int32) (a3 : Int32) : zMet l E D tA yX6_answers (ws_ yX6_answers cX6_answers 6 (Option.some Jvm.ClassFile.FieldType.int)) 18 (s_X6_answers E a0 a1 a2 a3) [zP a0, zI a1, zI a2, zI a3] := by
  refine z_met hl (by decide +kernel) (by rw [zSl_len]; exact (Nat.le_of_ble_eq_true rfl)) fun p e R s m args below meth c k0 x hret hnm htab => ?_
  refine z_lv [(0, zP a0), (1, zI a1), (2, zI a2), (3, zI a3)] rfl ?_
  unfold s_X6_answers
  refine z_aload_n (pc := 0) x 0 dX6_answers_0 rfl rfl ?_
  refine z_iload_n (pc := 1) x 1 dX6_answers_1 rfl rfl ?_
  refine z_iload_n (pc := 2) x 2 dX6_answers_2 rfl rfl ?_
  refine z_iload_n (pc := 3) x 3 dX6_answers_3 rfl rfl ?_
  refine z_call (pc := 4) (z_canS (pc := 4) (As := [zI a1, zI a2, zI a3]) (st := [zP a0]) x (m_X6_isGoal hl a1 a2 a3) q3115 q3116 q121 q3117 n_X6_isGoal ⟨by decide, by decide⟩ (Nat.le_of_ble_eq_true rfl) dX6_answers_4) (zv_I fun v4 => ?_) (fun q => zx_thr x (fun z hz => (htab z hz).elim) q)
  refine z_if_ne (pc := 7) (tgt := 14) x dX6_answers_7 rfl (fun _ => ?_) (fun _ => ?_)
  · refine z_iconst (pc := 10) x (v := (1 : Int32)) dX6_answers_10 rfl ?_
    refine z_goto (pc := 11) (tgt := 15) x dX6_answers_11 rfl ?_
    exact z_sub [0, 1, 2, 3] rfl (w_X6_answers_15 x hl hret hnm htab a0 a1 a2 a3 a0 (1 : Int32))
  · refine z_iconst (pc := 14) x (v := (0 : Int32)) dX6_answers_14 rfl ?_
    exact z_sub [0, 1, 2, 3] rfl (w_X6_answers_15 x hl hret hnm htab a0 a1 a2 a3 a0 (0 : Int32))
/-! X6_answersByGoals -/
def s_X6_answersByGoals (E : zE) (a0 : Option Nat) (a1 : Int32) (a2 : Int32) (a3 : Int32) : zM := zC (zRv a0 [(34, fun b => s_X6_answers E (some b) a1 a2 a3)]) zThr (zKI (fun v4 => zRet (some (.int v4))))
theorem m_X6_answersByGoals {l : Launch} {E : zE} {D : va_G} {tA : Nat → ClassId} (hl : l.stackTraces = false) (a0 : Option Nat) (a1 : Int32) (a2 : Int32) (a3 : Int32) : zMet l E D tA yX6_answersByGoals (ws_ yX6_answersByGoals cX6_answersByGoals 4 (Option.some Jvm.ClassFile.FieldType.int)) 19 (s_X6_answersByGoals E a0 a1 a2 a3) [zP a0, zI a1, zI a2, zI a3] := by
  refine z_met hl (by decide +kernel) (by rw [zSl_len]; exact (Nat.le_of_ble_eq_true rfl)) fun p e R s m args below meth c k0 x hret hnm htab => ?_
  refine z_lv [(0, zP a0), (1, zI a1), (2, zI a2), (3, zI a3)] rfl ?_
  unfold s_X6_answersByGoals
  refine z_aload_n (pc := 0) x 0 dX6_answersByGoals_0 rfl rfl ?_
  refine z_iload_n (pc := 1) x 1 dX6_answersByGoals_1 rfl rfl ?_
  refine z_iload_n (pc := 2) x 2 dX6_answersByGoals_2 rfl rfl ?_
  refine z_iload_n (pc := 3) x 3 dX6_answersByGoals_3 rfl rfl ?_
  refine z_call (pc := 4) (z_canV (pc := 4) (As := [zI a1, zI a2, zI a3]) (st := []) x (ci := 34) rfl (fun b => m_X6_answers hl (some b) a1 a2 a3) q3129 q3112 (x.2.2.2.2.1 _ q3113) q121 q3114 n_X6_answers ⟨by decide, by decide⟩ (Nat.le_of_ble_eq_true rfl) dX6_answersByGoals_4) (zv_I fun v4 => ?_) (fun q => zx_thr x (fun z hz => (htab z hz).elim) q)
  exact z_iret (pc := 7) x hret dX6_answersByGoals_7
/-! X6_answerAt -/
def s_X6_answerAt_84 (E : zE) (k34 : Option Nat → Int32 → Int32 → Int32 → Int32 → Int32 → Int32 → zM) (a0 : Option Nat) (a1 : Int32) (a2 : Int32) (a3 : Int32) (a4 : Int32) (a5 : Int32) (a6 : Int32) : zM := k34 a0 a1 a2 a3 a4 a5 (a6 + (1 : Int32))
theorem w_X6_answerAt_84 (x : zCx p l R s m args meth c E D tA cX6_answerAt 7 yX6_answerAt.cls 18) (hl : l.stackTraces = false) (hret : meth.sig.returnType = (Option.some Jvm.ClassFile.FieldType.int)) (hnm : meth.name = yX6_answerAt.name) (htab : ∀ z ∈ c.exceptionTable.toList, False) {k34 : Option Nat → Int32 → Int32 → Int32 → Int32 → Int32 → Int32 → zM} (h34 : ∀ (a0 : Option Nat) (a1 : Int32) (a2 : Int32) (a3 : Int32) (a4 : Int32) (a5 : Int32) (a6 : Int32) , zW p l e R s m args below meth c E D tA 7 k0 (k34 a0 a1 a2 a3 a4 a5 a6) [(0, zP a0), (1, zI a1), (2, zI a2), (3, zI a3), (4, zI a4), (5, zI a5), (6, zI a6)] 34 []) (a0 : Option Nat) (a1 : Int32) (a2 : Int32) (a3 : Int32) (a4 : Int32) (a5 : Int32) (a6 : Int32) : zW p l e R s m args below meth c E D tA 7 k0 (s_X6_answerAt_84 E k34 a0 a1 a2 a3 a4 a5 a6) [(0, zP a0), (1, zI a1), (2, zI a2), (3, zI a3), (4, zI a4), (5, zI a5), (6, zI a6)] 84 [] := by
  unfold s_X6_answerAt_84
  refine z_iinc (pc := 84) (lv' := [(6, zI (a6 + (1 : Int32))), (0, zP a0), (1, zI a1), (2, zI a2), (3, zI a3), (4, zI a4), (5, zI a5)]) x (v2 := (a6 + (1 : Int32))) 6 dX6_answerAt_84 rfl rfl (Nat.le_of_ble_eq_true rfl) rfl ?_
  refine z_goto (pc := 87) (tgt := 34) x dX6_answerAt_87 rfl ?_
  exact z_sub [1, 2, 3, 4, 5, 6, 0] rfl (h34 a0 a1 a2 a3 a4 a5 (a6 + (1 : Int32)))
def s_X6_answerAt_34 (E : zE) : Nat → Option Nat → Int32 → Int32 → Int32 → Int32 → Int32 → Int32 → zM
  | 0, _, _, _, _, _, _, _ => zFail
  | n + 1, a0, a1, a2, a3, a4, a5, a6 => if (440 : Int32) ≤ a6 then (zSet E a0 34 13 (zVal (zI (2 : Int32))) (zRet (some (.int (0 : Int32))))) else (zC (zRv a0 [(34, fun b => s_X6_isAnswer E (some b) a6 a1 a2 a3)]) zThr (zKI (fun v48 => if v48 = 0 then (s_X6_answerAt_84 E (s_X6_answerAt_34 E n) a0 a1 a2 a3 a4 a5 a6) else (if a5 = a4 then (if (101 : Int32) ≤ a1 then (zRem a6 (10 : Int32) (fun v79 => zRet (some (.int v79)))) else (zRem a6 (100 : Int32) (fun v71 => zRet (some (.int v71))))) else (s_X6_answerAt_84 E (s_X6_answerAt_34 E n) a0 a1 a2 a3 a4 (a5 + (1 : Int32)) a6)))))
theorem w_X6_answerAt_34 (x : zCx p l R s m args meth c E D tA cX6_answerAt 7 yX6_answerAt.cls 18) (hl : l.stackTraces = false) (hret : meth.sig.returnType = (Option.some Jvm.ClassFile.FieldType.int)) (hnm : meth.name = yX6_answerAt.name) (htab : ∀ z ∈ c.exceptionTable.toList, False) : ∀ (n : Nat) (a0 : Option Nat) (a1 : Int32) (a2 : Int32) (a3 : Int32) (a4 : Int32) (a5 : Int32) (a6 : Int32), zW p l e R s m args below meth c E D tA 7 k0 (s_X6_answerAt_34 E n a0 a1 a2 a3 a4 a5 a6) [(0, zP a0), (1, zI a1), (2, zI a2), (3, zI a3), (4, zI a4), (5, zI a5), (6, zI a6)] 34 [] := by
  intro n
  induction n with
  | zero => intro a0 a1 a2 a3 a4 a5 a6; exact z_fail
  | succ n h34 =>
    intro a0 a1 a2 a3 a4 a5 a6
    rw [s_X6_answerAt_34]
    refine z_iload (pc := 34) x 6 dX6_answerAt_34 rfl ?_
    refine z_sipush (pc := 36) x (v := (440 : Int32)) dX6_answerAt_36 rfl ?_
    refine z_icmp_ge (pc := 39) (tgt := 90) x dX6_answerAt_39 rfl (fun _ => ?_) (fun _ => ?_)
    · refine z_aload_n (pc := 90) x 0 dX6_answerAt_90 rfl rfl ?_
      refine z_iconst (pc := 91) x (v := (2 : Int32)) dX6_answerAt_91 rfl ?_
      refine z_set (pc := 92) (v := zI (2 : Int32)) x in_X6 tyX6 tyX6_ok nmX6 (ci := 34) rfl (k := 13) (by decide) q2798 (fun _ h => h) rfl rfl rfl dX6_answerAt_92 ?_
      refine z_iconst (pc := 95) x (v := (0 : Int32)) dX6_answerAt_95 rfl ?_
      exact z_iret (pc := 96) x hret dX6_answerAt_96
    · refine z_aload_n (pc := 42) x 0 dX6_answerAt_42 rfl rfl ?_
      refine z_iload (pc := 43) x 6 dX6_answerAt_43 rfl ?_
      refine z_iload_n (pc := 45) x 1 dX6_answerAt_45 rfl rfl ?_
      refine z_iload_n (pc := 46) x 2 dX6_answerAt_46 rfl rfl ?_
      refine z_iload_n (pc := 47) x 3 dX6_answerAt_47 rfl rfl ?_
      refine z_call (pc := 48) (z_canV (pc := 48) (As := [zI a6, zI a1, zI a2, zI a3]) (st := []) x (ci := 34) rfl (fun b => m_X6_isAnswer hl (some b) a6 a1 a2 a3) q3118 q3120 (z_selP x (ci := 34) rfl (by decide) (zNi_inst x q2780) q3119 q3120) q121 q3121 n_X6_isAnswer ⟨by decide, by decide⟩ (Nat.le_of_ble_eq_true rfl) dX6_answerAt_48) (zv_I fun v48 => ?_) (fun q => zx_thr x (fun z hz => (htab z hz).elim) q)
      refine z_if_eq (pc := 51) (tgt := 84) x dX6_answerAt_51 rfl (fun _ => ?_) (fun _ => ?_)
      · exact z_sub [0, 1, 2, 3, 4, 5, 6] rfl (w_X6_answerAt_84 x hl hret hnm htab h34 a0 a1 a2 a3 a4 a5 a6)
      · refine z_iload (pc := 54) x 5 dX6_answerAt_54 rfl ?_
        refine z_iload (pc := 56) x 4 dX6_answerAt_56 rfl ?_
        refine z_icmp_ne (pc := 58) (tgt := 81) x dX6_answerAt_58 rfl (fun _ => ?_) (fun _ => ?_)
        · refine z_iload_n (pc := 61) x 1 dX6_answerAt_61 rfl rfl ?_
          refine z_bipush (pc := 62) x (v := (101 : Int32)) dX6_answerAt_62 rfl ?_
          refine z_icmp_ge (pc := 64) (tgt := 75) x dX6_answerAt_64 rfl (fun _ => ?_) (fun _ => ?_)
          · refine z_iload (pc := 75) x 6 dX6_answerAt_75 rfl ?_
            refine z_bipush (pc := 77) x (v := (10 : Int32)) dX6_answerAt_77 rfl ?_
            refine z_irem (pc := 79) x dX6_answerAt_79 fun v79 => ?_
            exact z_iret (pc := 80) x hret dX6_answerAt_80
          · refine z_iload (pc := 67) x 6 dX6_answerAt_67 rfl ?_
            refine z_bipush (pc := 69) x (v := (100 : Int32)) dX6_answerAt_69 rfl ?_
            refine z_irem (pc := 71) x dX6_answerAt_71 fun v71 => ?_
            refine z_goto (pc := 72) (tgt := 80) x dX6_answerAt_72 rfl ?_
            exact z_iret (pc := 80) x hret dX6_answerAt_80
        · refine z_iinc (pc := 81) (lv' := [(5, zI (a5 + (1 : Int32))), (0, zP a0), (1, zI a1), (2, zI a2), (3, zI a3), (4, zI a4), (6, zI a6)]) x (v2 := (a5 + (1 : Int32))) 5 dX6_answerAt_81 rfl rfl (Nat.le_of_ble_eq_true rfl) rfl ?_
          exact z_sub [1, 2, 3, 4, 5, 0, 6] rfl (w_X6_answerAt_84 x hl hret hnm htab h34 a0 a1 a2 a3 a4 (a5 + (1 : Int32)) a6)
def s_X6_answerAt_15 (E : zE) (a0 : Option Nat) (a1 : Int32) (a2 : Int32) (a3 : Int32) (a4 : Int32) (b0 : Option Nat) (b1 : Int32) : zM := zC (zRv b0 [(34, fun b => s_X6_isThrown E (some b) b1 (1 : Int32))]) zThr (zKI (fun v16 => if v16 = 0 then (zC (zRv a0 [(34, fun b => s_X6_finds E (some b))]) zThr (zKV (s_X6_answerAt_34 E zN a0 a1 a2 a3 a4 (0 : Int32) (0 : Int32)))) else (zRet (some (.int (0 : Int32))))))
theorem w_X6_answerAt_15 (x : zCx p l R s m args meth c E D tA cX6_answerAt 7 yX6_answerAt.cls 18) (hl : l.stackTraces = false) (hret : meth.sig.returnType = (Option.some Jvm.ClassFile.FieldType.int)) (hnm : meth.name = yX6_answerAt.name) (htab : ∀ z ∈ c.exceptionTable.toList, False) (a0 : Option Nat) (a1 : Int32) (a2 : Int32) (a3 : Int32) (a4 : Int32) (b0 : Option Nat) (b1 : Int32) : zW p l e R s m args below meth c E D tA 7 k0 (s_X6_answerAt_15 E a0 a1 a2 a3 a4 b0 b1) [(0, zP a0), (1, zI a1), (2, zI a2), (3, zI a3), (4, zI a4)] 15 [zI b1, zP b0] := by
  unfold s_X6_answerAt_15
  refine z_iconst (pc := 15) x (v := (1 : Int32)) dX6_answerAt_15 rfl ?_
  refine z_call (pc := 16) (z_canV (pc := 16) (As := [zI b1, zI (1 : Int32)]) (st := []) x (ci := 34) rfl (fun b => m_X6_isThrown hl (some b) b1 (1 : Int32)) q2898 q2900 (z_selP x (ci := 34) rfl (by decide) (zNi_inst x q2780) q2899 q2900) q121 q2901 n_X6_isThrown ⟨by decide, by decide⟩ (Nat.le_of_ble_eq_true rfl) dX6_answerAt_16) (zv_I fun v16 => ?_) (fun q => zx_thr x (fun z hz => (htab z hz).elim) q)
  refine z_if_eq (pc := 19) (tgt := 24) x dX6_answerAt_19 rfl (fun _ => ?_) (fun _ => ?_)
  · refine z_aload_n (pc := 24) x 0 dX6_answerAt_24 rfl rfl ?_
    refine z_call (pc := 25) (z_canV (pc := 25) (As := []) (st := []) x (ci := 34) rfl (fun b => m_X6_finds hl (some b)) q2923 q2925 (z_selP x (ci := 34) rfl (by decide) (zNi_inst x q2780) q2924 q2925) q121 q2926 n_X6_finds ⟨by decide, by decide⟩ (Nat.le_of_ble_eq_true rfl) dX6_answerAt_25) (zv_V ?_) (fun q => zx_thr x (fun z hz => (htab z hz).elim) q)
    refine z_iconst (pc := 28) x (v := (0 : Int32)) dX6_answerAt_28 rfl ?_
    refine z_istore (pc := 29) (lv' := [(5, zI (0 : Int32)), (0, zP a0), (1, zI a1), (2, zI a2), (3, zI a3), (4, zI a4)]) x dX6_answerAt_29 (Nat.le_of_ble_eq_true rfl) rfl ?_
    refine z_iconst (pc := 31) x (v := (0 : Int32)) dX6_answerAt_31 rfl ?_
    refine z_istore (pc := 32) (lv' := [(6, zI (0 : Int32)), (5, zI (0 : Int32)), (0, zP a0), (1, zI a1), (2, zI a2), (3, zI a3), (4, zI a4)]) x dX6_answerAt_32 (Nat.le_of_ble_eq_true rfl) rfl ?_
    exact z_sub [2, 3, 4, 5, 6, 1, 0] rfl (w_X6_answerAt_34 x hl hret hnm htab zN a0 a1 a2 a3 a4 (0 : Int32) (0 : Int32))
  · refine z_iconst (pc := 22) x (v := (0 : Int32)) dX6_answerAt_22 rfl ?_
    exact z_iret (pc := 23) x hret dX6_answerAt_23
def s_X6_answerAt (E : zE) (a0 : Option Nat) (a1 : Int32) (a2 : Int32) (a3 : Int32) (a4 : Int32) : zM := zC (s_X6_isGoal E a1 a2 a3) zThr (zKI (fun v4 => if v4 = 0 then (s_X6_answerAt_15 E a0 a1 a2 a3 a4 a0 (1 : Int32)) else (s_X6_answerAt_15 E a0 a1 a2 a3 a4 a0 (0 : Int32))))
theorem m_X6_answerAt {l : Launch} {E : zE} {D : va_G} {tA : Nat → ClassId} (hl : l.stackTraces = false) (a0 : Option Nat) (a1 : Int32) (a2 : Int32) (a3 : Int32) (a4 : Int32) : zMet l E D tA yX6_answerAt (ws_ yX6_answerAt cX6_answerAt 7 (Option.some Jvm.ClassFile.FieldType.int)) 18 (s_X6_answerAt E a0 a1 a2 a3 a4) [zP a0, zI a1, zI a2, zI a3, zI a4] := by
  refine z_met hl (by decide +kernel) (by rw [zSl_len]; exact (Nat.le_of_ble_eq_true rfl)) fun p e R s m args below meth c k0 x hret hnm htab => ?_
  refine z_lv [(0, zP a0), (1, zI a1), (2, zI a2), (3, zI a3), (4, zI a4)] rfl ?_
  unfold s_X6_answerAt
  refine z_aload_n (pc := 0) x 0 dX6_answerAt_0 rfl rfl ?_
  refine z_iload_n (pc := 1) x 1 dX6_answerAt_1 rfl rfl ?_
  refine z_iload_n (pc := 2) x 2 dX6_answerAt_2 rfl rfl ?_
  refine z_iload_n (pc := 3) x 3 dX6_answerAt_3 rfl rfl ?_
  refine z_call (pc := 4) (z_canS (pc := 4) (As := [zI a1, zI a2, zI a3]) (st := [zP a0]) x (m_X6_isGoal hl a1 a2 a3) q3115 q3116 q121 q3117 n_X6_isGoal ⟨by decide, by decide⟩ (Nat.le_of_ble_eq_true rfl) dX6_answerAt_4) (zv_I fun v4 => ?_) (fun q => zx_thr x (fun z hz => (htab z hz).elim) q)
  refine z_if_ne (pc := 7) (tgt := 14) x dX6_answerAt_7 rfl (fun _ => ?_) (fun _ => ?_)
  · refine z_iconst (pc := 10) x (v := (1 : Int32)) dX6_answerAt_10 rfl ?_
    refine z_goto (pc := 11) (tgt := 15) x dX6_answerAt_11 rfl ?_
    exact z_sub [0, 1, 2, 3, 4] rfl (w_X6_answerAt_15 x hl hret hnm htab a0 a1 a2 a3 a4 a0 (1 : Int32))
  · refine z_iconst (pc := 14) x (v := (0 : Int32)) dX6_answerAt_14 rfl ?_
    exact z_sub [0, 1, 2, 3, 4] rfl (w_X6_answerAt_15 x hl hret hnm htab a0 a1 a2 a3 a4 a0 (0 : Int32))
/-! X6_ruleCount -/
def s_X6_ruleCount (E : zE) (a0 : Option Nat) : zM := zSet E a0 34 13 (zVal (zI (0 : Int32))) (zGetR a0 34 0 (fun v6 => zGaI 0 v6 (3 : Int32) (fun v10 => zRet (some (.int v10)))))
theorem m_X6_ruleCount {l : Launch} {E : zE} {D : va_G} {tA : Nat → ClassId} (hl : l.stackTraces = false) (a0 : Option Nat) : zMet l E D tA yX6_ruleCount (ws_ yX6_ruleCount cX6_ruleCount 1 (Option.some Jvm.ClassFile.FieldType.int)) 9 (s_X6_ruleCount E a0) [zP a0] := by
  refine z_met hl (by decide +kernel) (by rw [zSl_len]; exact (Nat.le_of_ble_eq_true rfl)) fun p e R s m args below meth c k0 x hret hnm htab => ?_
  refine z_lv [(0, zP a0)] rfl ?_
  unfold s_X6_ruleCount
  refine z_aload_n (pc := 0) x 0 dX6_ruleCount_0 rfl rfl ?_
  refine z_iconst (pc := 1) x (v := (0 : Int32)) dX6_ruleCount_1 rfl ?_
  refine z_set (pc := 2) (v := zI (0 : Int32)) x in_X6 tyX6 tyX6_ok nmX6 (ci := 34) rfl (k := 13) (by decide) q2798 (fun _ h => h) rfl rfl rfl dX6_ruleCount_2 ?_
  refine z_aload_n (pc := 5) x 0 dX6_ruleCount_5 rfl rfl ?_
  refine z_get (pc := 6) (fun _ _ h => zAsR_eq h) x in_X6 (ci := 34) rfl (k := 0) (by decide) q2785 (fun _ h => h) dX6_ruleCount_6 fun v6 => ?_
  refine z_iconst (pc := 9) x (v := (3 : Int32)) dX6_ruleCount_9 rfl ?_
  refine z_iald (pc := 10) x (t := 0) rfl dX6_ruleCount_10 fun v10 => ?_
  exact z_iret (pc := 11) x hret dX6_ruleCount_11
/-! X6_variables -/
def s_X6_variables_49 (E : zE) (k28 : Option Nat → Int32 → Int32 → Int32 → zM) (a0 : Option Nat) (a1 : Int32) (a3 : Int32) (b0 : Int32) (b1 : Int32) : zM := k28 a0 a1 (b0 + b1) (a3 + (1 : Int32))
theorem w_X6_variables_49 (x : zCx p l R s m args meth c E D tA cX6_variables 4 yX6_variables.cls 12) (hl : l.stackTraces = false) (hret : meth.sig.returnType = (Option.some Jvm.ClassFile.FieldType.int)) (hnm : meth.name = yX6_variables.name) (htab : ∀ z ∈ c.exceptionTable.toList, False) {k28 : Option Nat → Int32 → Int32 → Int32 → zM} (h28 : ∀ (a0 : Option Nat) (a1 : Int32) (a2 : Int32) (a3 : Int32) , zW p l e R s m args below meth c E D tA 4 k0 (k28 a0 a1 a2 a3) [(0, zP a0), (1, zI a1), (2, zI a2), (3, zI a3)] 28 []) (a0 : Option Nat) (a1 : Int32) (a3 : Int32) (b0 : Int32) (b1 : Int32) : zW p l e R s m args below meth c E D tA 4 k0 (s_X6_variables_49 E k28 a0 a1 a3 b0 b1) [(0, zP a0), (1, zI a1), (3, zI a3)] 49 [zI b1, zI b0] := by
  unfold s_X6_variables_49
  refine z_iadd (pc := 49) x dX6_variables_49 ?_
  refine z_istore_n (pc := 50) (lv' := [(2, zI (b0 + b1)), (0, zP a0), (1, zI a1), (3, zI a3)]) x dX6_variables_50 rfl (Nat.le_of_ble_eq_true rfl) rfl ?_
  refine z_iinc (pc := 51) (lv' := [(3, zI (a3 + (1 : Int32))), (2, zI (b0 + b1)), (0, zP a0), (1, zI a1)]) x (v2 := (a3 + (1 : Int32))) 3 dX6_variables_51 rfl rfl (Nat.le_of_ble_eq_true rfl) rfl ?_
  refine z_goto (pc := 54) (tgt := 28) x dX6_variables_54 rfl ?_
  exact z_sub [2, 3, 1, 0] rfl (h28 a0 a1 (b0 + b1) (a3 + (1 : Int32)))
def s_X6_variables_28 (E : zE) : Nat → Option Nat → Int32 → Int32 → Int32 → zM
  | 0, _, _, _, _ => zFail
  | n + 1, a0, a1, a2, a3 => if (13 : Int32) ≤ a3 then (zRet (some (.int a2))) else (zC (zRv a0 [(34, fun b => s_X6_hasVariable E (some b) a1 a3)]) zThr (zKI (fun v38 => if v38 = 0 then (s_X6_variables_49 E (s_X6_variables_28 E n) a0 a1 a3 a2 (0 : Int32)) else (s_X6_variables_49 E (s_X6_variables_28 E n) a0 a1 a3 a2 (1 : Int32)))))
theorem w_X6_variables_28 (x : zCx p l R s m args meth c E D tA cX6_variables 4 yX6_variables.cls 12) (hl : l.stackTraces = false) (hret : meth.sig.returnType = (Option.some Jvm.ClassFile.FieldType.int)) (hnm : meth.name = yX6_variables.name) (htab : ∀ z ∈ c.exceptionTable.toList, False) : ∀ (n : Nat) (a0 : Option Nat) (a1 : Int32) (a2 : Int32) (a3 : Int32), zW p l e R s m args below meth c E D tA 4 k0 (s_X6_variables_28 E n a0 a1 a2 a3) [(0, zP a0), (1, zI a1), (2, zI a2), (3, zI a3)] 28 [] := by
  intro n
  induction n with
  | zero => intro a0 a1 a2 a3; exact z_fail
  | succ n h28 =>
    intro a0 a1 a2 a3
    rw [s_X6_variables_28]
    refine z_iload_n (pc := 28) x 3 dX6_variables_28 rfl rfl ?_
    refine z_bipush (pc := 29) x (v := (13 : Int32)) dX6_variables_29 rfl ?_
    refine z_icmp_ge (pc := 31) (tgt := 57) x dX6_variables_31 rfl (fun _ => ?_) (fun _ => ?_)
    · refine z_iload_n (pc := 57) x 2 dX6_variables_57 rfl rfl ?_
      exact z_iret (pc := 58) x hret dX6_variables_58
    · refine z_iload_n (pc := 34) x 2 dX6_variables_34 rfl rfl ?_
      refine z_aload_n (pc := 35) x 0 dX6_variables_35 rfl rfl ?_
      refine z_iload_n (pc := 36) x 1 dX6_variables_36 rfl rfl ?_
      refine z_iload_n (pc := 37) x 3 dX6_variables_37 rfl rfl ?_
      refine z_call (pc := 38) (z_canV (pc := 38) (As := [zI a1, zI a3]) (st := [zI a2]) x (ci := 34) rfl (fun b => m_X6_hasVariable hl (some b) a1 a3) q2959 q2961 (z_selP x (ci := 34) rfl (by decide) (zNi_inst x q2780) q2960 q2961) q121 q2962 n_X6_hasVariable ⟨by decide, by decide⟩ (Nat.le_of_ble_eq_true rfl) dX6_variables_38) (zv_I fun v38 => ?_) (fun q => zx_thr x (fun z hz => (htab z hz).elim) q)
      refine z_if_eq (pc := 41) (tgt := 48) x dX6_variables_41 rfl (fun _ => ?_) (fun _ => ?_)
      · refine z_iconst (pc := 48) x (v := (0 : Int32)) dX6_variables_48 rfl ?_
        exact z_sub [0, 1, 3] rfl (w_X6_variables_49 x hl hret hnm htab h28 a0 a1 a3 a2 (0 : Int32))
      · refine z_iconst (pc := 44) x (v := (1 : Int32)) dX6_variables_44 rfl ?_
        refine z_goto (pc := 45) (tgt := 49) x dX6_variables_45 rfl ?_
        exact z_sub [0, 1, 3] rfl (w_X6_variables_49 x hl hret hnm htab h28 a0 a1 a3 a2 (1 : Int32))
def s_X6_variables_14 (E : zE) (a0 : Option Nat) (a1 : Int32) (b0 : Option Nat) (b1 : Int32) : zM := zC (zRv b0 [(34, fun b => s_X6_isThrown E (some b) b1 (1 : Int32))]) zThr (zKI (fun v15 => if v15 = 0 then (s_X6_variables_28 E zN a0 a1 (0 : Int32) (10 : Int32)) else (zRet (some (.int (0 : Int32))))))
theorem w_X6_variables_14 (x : zCx p l R s m args meth c E D tA cX6_variables 4 yX6_variables.cls 12) (hl : l.stackTraces = false) (hret : meth.sig.returnType = (Option.some Jvm.ClassFile.FieldType.int)) (hnm : meth.name = yX6_variables.name) (htab : ∀ z ∈ c.exceptionTable.toList, False) (a0 : Option Nat) (a1 : Int32) (b0 : Option Nat) (b1 : Int32) : zW p l e R s m args below meth c E D tA 4 k0 (s_X6_variables_14 E a0 a1 b0 b1) [(0, zP a0), (1, zI a1)] 14 [zI b1, zP b0] := by
  unfold s_X6_variables_14
  refine z_iconst (pc := 14) x (v := (1 : Int32)) dX6_variables_14 rfl ?_
  refine z_call (pc := 15) (z_canV (pc := 15) (As := [zI b1, zI (1 : Int32)]) (st := []) x (ci := 34) rfl (fun b => m_X6_isThrown hl (some b) b1 (1 : Int32)) q2898 q2900 (z_selP x (ci := 34) rfl (by decide) (zNi_inst x q2780) q2899 q2900) q121 q2901 n_X6_isThrown ⟨by decide, by decide⟩ (Nat.le_of_ble_eq_true rfl) dX6_variables_15) (zv_I fun v15 => ?_) (fun q => zx_thr x (fun z hz => (htab z hz).elim) q)
  refine z_if_eq (pc := 18) (tgt := 23) x dX6_variables_18 rfl (fun _ => ?_) (fun _ => ?_)
  · refine z_iconst (pc := 23) x (v := (0 : Int32)) dX6_variables_23 rfl ?_
    refine z_istore_n (pc := 24) (lv' := [(2, zI (0 : Int32)), (0, zP a0), (1, zI a1)]) x dX6_variables_24 rfl (Nat.le_of_ble_eq_true rfl) rfl ?_
    refine z_bipush (pc := 25) x (v := (10 : Int32)) dX6_variables_25 rfl ?_
    refine z_istore_n (pc := 27) (lv' := [(3, zI (10 : Int32)), (2, zI (0 : Int32)), (0, zP a0), (1, zI a1)]) x dX6_variables_27 rfl (Nat.le_of_ble_eq_true rfl) rfl ?_
    exact z_sub [2, 3, 1, 0] rfl (w_X6_variables_28 x hl hret hnm htab zN a0 a1 (0 : Int32) (10 : Int32))
  · refine z_iconst (pc := 21) x (v := (0 : Int32)) dX6_variables_21 rfl ?_
    exact z_iret (pc := 22) x hret dX6_variables_22
def s_X6_variables (E : zE) (a0 : Option Nat) (a1 : Int32) : zM := zC (zRv a0 [(34, fun b => s_X6_isRule E (some b) a1)]) zThr (zKI (fun v3 => if v3 = 0 then (s_X6_variables_14 E a0 a1 a0 (1 : Int32)) else (s_X6_variables_14 E a0 a1 a0 (0 : Int32))))
theorem m_X6_variables {l : Launch} {E : zE} {D : va_G} {tA : Nat → ClassId} (hl : l.stackTraces = false) (a0 : Option Nat) (a1 : Int32) : zMet l E D tA yX6_variables (ws_ yX6_variables cX6_variables 4 (Option.some Jvm.ClassFile.FieldType.int)) 12 (s_X6_variables E a0 a1) [zP a0, zI a1] := by
  refine z_met hl (by decide +kernel) (by rw [zSl_len]; exact (Nat.le_of_ble_eq_true rfl)) fun p e R s m args below meth c k0 x hret hnm htab => ?_
  refine z_lv [(0, zP a0), (1, zI a1)] rfl ?_
  unfold s_X6_variables
  refine z_aload_n (pc := 0) x 0 dX6_variables_0 rfl rfl ?_
  refine z_aload_n (pc := 1) x 0 dX6_variables_1 rfl rfl ?_
  refine z_iload_n (pc := 2) x 1 dX6_variables_2 rfl rfl ?_
  refine z_call (pc := 3) (z_canV (pc := 3) (As := [zI a1]) (st := [zP a0]) x (ci := 34) rfl (fun b => m_X6_isRule hl (some b) a1) q3024 q3026 (z_selP x (ci := 34) rfl (by decide) (zNi_inst x q2780) q3025 q3026) q121 q3027 n_X6_isRule ⟨by decide, by decide⟩ (Nat.le_of_ble_eq_true rfl) dX6_variables_3) (zv_I fun v3 => ?_) (fun q => zx_thr x (fun z hz => (htab z hz).elim) q)
  refine z_if_ne (pc := 6) (tgt := 13) x dX6_variables_6 rfl (fun _ => ?_) (fun _ => ?_)
  · refine z_iconst (pc := 9) x (v := (1 : Int32)) dX6_variables_9 rfl ?_
    refine z_goto (pc := 10) (tgt := 14) x dX6_variables_10 rfl ?_
    exact z_sub [0, 1] rfl (w_X6_variables_14 x hl hret hnm htab a0 a1 a0 (1 : Int32))
  · refine z_iconst (pc := 13) x (v := (0 : Int32)) dX6_variables_13 rfl ?_
    exact z_sub [0, 1] rfl (w_X6_variables_14 x hl hret hnm htab a0 a1 a0 (0 : Int32))
/-! X6_depends -/
def s_X6_depends_141 (E : zE) (k81 : Option Nat → Int32 → zM) (k89 : Option Nat → Int32 → Int32 → zM) (a0 : Option Nat) (a1 : Int32) (a2 : Int32) (b0 : Option Nat) (b1 : Int32) (b2 : Int32) (b3 : Int32) : zM := zSaI E 2 b0 b1 (vp_nar .boolean (b2 ||| b3)) (k89 a0 a1 (a2 + (1 : Int32)))
theorem w_X6_depends_141 (x : zCx p l R s m args meth c E D tA cX6_depends 3 yX6_depends.cls 12) (hl : l.stackTraces = false) (hret : meth.sig.returnType = (Option.none : Option Jvm.ClassFile.FieldType)) (hnm : meth.name = yX6_depends.name) (htab : ∀ z ∈ c.exceptionTable.toList, False) {k81 : Option Nat → Int32 → zM} (h81 : ∀ (a0 : Option Nat) (a1 : Int32) , zW p l e R s m args below meth c E D tA 3 k0 (k81 a0 a1) [(0, zP a0), (1, zI a1)] 81 []) {k89 : Option Nat → Int32 → Int32 → zM} (h89 : ∀ (a0 : Option Nat) (a1 : Int32) (a2 : Int32) , zW p l e R s m args below meth c E D tA 3 k0 (k89 a0 a1 a2) [(0, zP a0), (1, zI a1), (2, zI a2)] 89 []) (a0 : Option Nat) (a1 : Int32) (a2 : Int32) (b0 : Option Nat) (b1 : Int32) (b2 : Int32) (b3 : Int32) : zW p l e R s m args below meth c E D tA 3 k0 (s_X6_depends_141 E k81 k89 a0 a1 a2 b0 b1 b2 b3) [(0, zP a0), (1, zI a1), (2, zI a2)] 141 [zI b3, zI b2, zI b1, zP b0] := by
  unfold s_X6_depends_141
  refine z_ior (pc := 141) x dX6_depends_141 ?_
  refine z_zast (pc := 142) x (t := 2) rfl dX6_depends_142 ?_
  refine z_iinc (pc := 143) (lv' := [(2, zI (a2 + (1 : Int32))), (0, zP a0), (1, zI a1)]) x (v2 := (a2 + (1 : Int32))) 2 dX6_depends_143 rfl rfl (Nat.le_of_ble_eq_true rfl) rfl ?_
  refine z_goto (pc := 146) (tgt := 89) x dX6_depends_146 rfl ?_
  exact z_sub [1, 2, 0] rfl (h89 a0 a1 (a2 + (1 : Int32)))
def s_X6_depends_140 (E : zE) (k81 : Option Nat → Int32 → zM) (k89 : Option Nat → Int32 → Int32 → zM) (a0 : Option Nat) (a1 : Int32) (a2 : Int32) (b0 : Option Nat) (b1 : Int32) (b2 : Int32) : zM := s_X6_depends_141 E k81 k89 a0 a1 a2 b0 b1 b2 (0 : Int32)
theorem w_X6_depends_140 (x : zCx p l R s m args meth c E D tA cX6_depends 3 yX6_depends.cls 12) (hl : l.stackTraces = false) (hret : meth.sig.returnType = (Option.none : Option Jvm.ClassFile.FieldType)) (hnm : meth.name = yX6_depends.name) (htab : ∀ z ∈ c.exceptionTable.toList, False) {k81 : Option Nat → Int32 → zM} (h81 : ∀ (a0 : Option Nat) (a1 : Int32) , zW p l e R s m args below meth c E D tA 3 k0 (k81 a0 a1) [(0, zP a0), (1, zI a1)] 81 []) {k89 : Option Nat → Int32 → Int32 → zM} (h89 : ∀ (a0 : Option Nat) (a1 : Int32) (a2 : Int32) , zW p l e R s m args below meth c E D tA 3 k0 (k89 a0 a1 a2) [(0, zP a0), (1, zI a1), (2, zI a2)] 89 []) (a0 : Option Nat) (a1 : Int32) (a2 : Int32) (b0 : Option Nat) (b1 : Int32) (b2 : Int32) : zW p l e R s m args below meth c E D tA 3 k0 (s_X6_depends_140 E k81 k89 a0 a1 a2 b0 b1 b2) [(0, zP a0), (1, zI a1), (2, zI a2)] 140 [zI b2, zI b1, zP b0] := by
  unfold s_X6_depends_140
  refine z_iconst (pc := 140) x (v := (0 : Int32)) dX6_depends_140 rfl ?_
  exact z_sub [0, 1, 2] rfl (w_X6_depends_141 x hl hret hnm htab h81 h89 a0 a1 a2 b0 b1 b2 (0 : Int32))
def s_X6_depends_89 (E : zE) (k81 : Option Nat → Int32 → zM) : Nat → Option Nat → Int32 → Int32 → zM
  | 0, _, _, _ => zFail
  | n + 1, a0, a1, a2 => if (64 : Int32) ≤ a2 then (k81 a0 (a1 + (1 : Int32))) else (zGetR a0 34 11 (fun v96 => zGaI 2 v96 a2 (fun v101 => zGetR a0 34 11 (fun v103 => zDiv a2 (8 : Int32) (fun v111 => zGaI 2 v103 (((8 : Int32) * v111) + a1) (fun v115 => if v115 = 0 then (s_X6_depends_140 E k81 (s_X6_depends_89 E k81 n) a0 a1 a2 v96 a2 v101) else (zGetR a0 34 11 (fun v120 => zRem a2 (8 : Int32) (fun v130 => zGaI 2 v120 (((8 : Int32) * a1) + v130) (fun v132 => if v132 = 0 then (s_X6_depends_140 E k81 (s_X6_depends_89 E k81 n) a0 a1 a2 v96 a2 v101) else (s_X6_depends_141 E k81 (s_X6_depends_89 E k81 n) a0 a1 a2 v96 a2 v101 (1 : Int32))))))))))))
theorem w_X6_depends_89 (x : zCx p l R s m args meth c E D tA cX6_depends 3 yX6_depends.cls 12) (hl : l.stackTraces = false) (hret : meth.sig.returnType = (Option.none : Option Jvm.ClassFile.FieldType)) (hnm : meth.name = yX6_depends.name) (htab : ∀ z ∈ c.exceptionTable.toList, False) {k81 : Option Nat → Int32 → zM} (h81 : ∀ (a0 : Option Nat) (a1 : Int32) , zW p l e R s m args below meth c E D tA 3 k0 (k81 a0 a1) [(0, zP a0), (1, zI a1)] 81 []) : ∀ (n : Nat) (a0 : Option Nat) (a1 : Int32) (a2 : Int32), zW p l e R s m args below meth c E D tA 3 k0 (s_X6_depends_89 E k81 n a0 a1 a2) [(0, zP a0), (1, zI a1), (2, zI a2)] 89 [] := by
  intro n
  induction n with
  | zero => intro a0 a1 a2; exact z_fail
  | succ n h89 =>
    intro a0 a1 a2
    rw [s_X6_depends_89]
    refine z_iload_n (pc := 89) x 2 dX6_depends_89 rfl rfl ?_
    refine z_bipush (pc := 90) x (v := (64 : Int32)) dX6_depends_90 rfl ?_
    refine z_icmp_ge (pc := 92) (tgt := 149) x dX6_depends_92 rfl (fun _ => ?_) (fun _ => ?_)
    · refine z_iinc (pc := 149) (lv' := [(1, zI (a1 + (1 : Int32))), (0, zP a0), (2, zI a2)]) x (v2 := (a1 + (1 : Int32))) 1 dX6_depends_149 rfl rfl (Nat.le_of_ble_eq_true rfl) rfl ?_
      refine z_goto (pc := 152) (tgt := 81) x dX6_depends_152 rfl ?_
      exact z_sub [1, 0] rfl (h81 a0 (a1 + (1 : Int32)))
    · refine z_aload_n (pc := 95) x 0 dX6_depends_95 rfl rfl ?_
      refine z_get (pc := 96) (fun _ _ h => zAsR_eq h) x in_X6 (ci := 34) rfl (k := 11) (by decide) q2796 (fun _ h => h) dX6_depends_96 fun v96 => ?_
      refine z_iload_n (pc := 99) x 2 dX6_depends_99 rfl rfl ?_
      refine z_dup2 (pc := 100) x dX6_depends_100 rfl rfl ?_
      refine z_zald (pc := 101) x (t := 2) rfl dX6_depends_101 fun v101 => ?_
      refine z_aload_n (pc := 102) x 0 dX6_depends_102 rfl rfl ?_
      refine z_get (pc := 103) (fun _ _ h => zAsR_eq h) x in_X6 (ci := 34) rfl (k := 11) (by decide) q2796 (fun _ h => h) dX6_depends_103 fun v103 => ?_
      refine z_bipush (pc := 106) x (v := (8 : Int32)) dX6_depends_106 rfl ?_
      refine z_iload_n (pc := 108) x 2 dX6_depends_108 rfl rfl ?_
      refine z_bipush (pc := 109) x (v := (8 : Int32)) dX6_depends_109 rfl ?_
      refine z_idiv (pc := 111) x dX6_depends_111 fun v111 => ?_
      refine z_imul (pc := 112) x dX6_depends_112 ?_
      refine z_iload_n (pc := 113) x 1 dX6_depends_113 rfl rfl ?_
      refine z_iadd (pc := 114) x dX6_depends_114 ?_
      refine z_zald (pc := 115) x (t := 2) rfl dX6_depends_115 fun v115 => ?_
      refine z_if_eq (pc := 116) (tgt := 140) x dX6_depends_116 rfl (fun _ => ?_) (fun _ => ?_)
      · exact z_sub [0, 1, 2] rfl (w_X6_depends_140 x hl hret hnm htab h81 h89 a0 a1 a2 v96 a2 v101)
      · refine z_aload_n (pc := 119) x 0 dX6_depends_119 rfl rfl ?_
        refine z_get (pc := 120) (fun _ _ h => zAsR_eq h) x in_X6 (ci := 34) rfl (k := 11) (by decide) q2796 (fun _ h => h) dX6_depends_120 fun v120 => ?_
        refine z_bipush (pc := 123) x (v := (8 : Int32)) dX6_depends_123 rfl ?_
        refine z_iload_n (pc := 125) x 1 dX6_depends_125 rfl rfl ?_
        refine z_imul (pc := 126) x dX6_depends_126 ?_
        refine z_iload_n (pc := 127) x 2 dX6_depends_127 rfl rfl ?_
        refine z_bipush (pc := 128) x (v := (8 : Int32)) dX6_depends_128 rfl ?_
        refine z_irem (pc := 130) x dX6_depends_130 fun v130 => ?_
        refine z_iadd (pc := 131) x dX6_depends_131 ?_
        refine z_zald (pc := 132) x (t := 2) rfl dX6_depends_132 fun v132 => ?_
        refine z_if_eq (pc := 133) (tgt := 140) x dX6_depends_133 rfl (fun _ => ?_) (fun _ => ?_)
        · exact z_sub [0, 1, 2] rfl (w_X6_depends_140 x hl hret hnm htab h81 h89 a0 a1 a2 v96 a2 v101)
        · refine z_iconst (pc := 136) x (v := (1 : Int32)) dX6_depends_136 rfl ?_
          refine z_goto (pc := 137) (tgt := 141) x dX6_depends_137 rfl ?_
          exact z_sub [0, 1, 2] rfl (w_X6_depends_141 x hl hret hnm htab h81 h89 a0 a1 a2 v96 a2 v101 (1 : Int32))
def s_X6_depends_81 (E : zE) : Nat → Option Nat → Int32 → zM
  | 0, _, _ => zFail
  | n + 1, a0, a1 => if (8 : Int32) ≤ a1 then (zRet none) else (s_X6_depends_89 E (s_X6_depends_81 E n) zN a0 a1 (0 : Int32))
theorem w_X6_depends_81 (x : zCx p l R s m args meth c E D tA cX6_depends 3 yX6_depends.cls 12) (hl : l.stackTraces = false) (hret : meth.sig.returnType = (Option.none : Option Jvm.ClassFile.FieldType)) (hnm : meth.name = yX6_depends.name) (htab : ∀ z ∈ c.exceptionTable.toList, False) : ∀ (n : Nat) (a0 : Option Nat) (a1 : Int32), zW p l e R s m args below meth c E D tA 3 k0 (s_X6_depends_81 E n a0 a1) [(0, zP a0), (1, zI a1)] 81 [] := by
  intro n
  induction n with
  | zero => intro a0 a1; exact z_fail
  | succ n h81 =>
    intro a0 a1
    rw [s_X6_depends_81]
    refine z_iload_n (pc := 81) x 1 dX6_depends_81 rfl rfl ?_
    refine z_bipush (pc := 82) x (v := (8 : Int32)) dX6_depends_82 rfl ?_
    refine z_icmp_ge (pc := 84) (tgt := 155) x dX6_depends_84 rfl (fun _ => ?_) (fun _ => ?_)
    · exact z_vret (pc := 155) x hret dX6_depends_155
    · refine z_iconst (pc := 87) x (v := (0 : Int32)) dX6_depends_87 rfl ?_
      refine z_istore_n (pc := 88) (lv' := [(2, zI (0 : Int32)), (0, zP a0), (1, zI a1)]) x dX6_depends_88 rfl (Nat.le_of_ble_eq_true rfl) rfl ?_
      exact z_sub [1, 2, 0] rfl (w_X6_depends_89 x hl hret hnm htab h81 zN a0 a1 (0 : Int32))
def s_X6_depends_35 (E : zE) (k23 : Option Nat → Int32 → zM) : Nat → Option Nat → Int32 → Int32 → zM
  | 0, _, _, _ => zFail
  | n + 1, a0, a1, a2 => if (8 : Int32) ≤ a2 then (k23 a0 (a1 + (1 : Int32))) else (zGetR a0 34 11 (fun v42 => zC (zRv a0 [(34, fun b => s_X6_of E (some b) a1 (0 : Int32))]) zThr (zKI (fun v50 => zGaI 2 v42 (((8 : Int32) * v50) + a2) (fun v57 => zC (zRv a0 [(34, fun b => s_X6_needsBy E (some b) a1 a2 (0 : Int32))]) zThr (zKI (fun v62 => zSaI E 2 v42 (((8 : Int32) * v50) + a2) (vp_nar .boolean (v57 ||| v62)) ((s_X6_depends_35 E k23 n) a0 a1 (a2 + (1 : Int32))))))))))
theorem w_X6_depends_35 (x : zCx p l R s m args meth c E D tA cX6_depends 3 yX6_depends.cls 12) (hl : l.stackTraces = false) (hret : meth.sig.returnType = (Option.none : Option Jvm.ClassFile.FieldType)) (hnm : meth.name = yX6_depends.name) (htab : ∀ z ∈ c.exceptionTable.toList, False) {k23 : Option Nat → Int32 → zM} (h23 : ∀ (a0 : Option Nat) (a1 : Int32) , zW p l e R s m args below meth c E D tA 3 k0 (k23 a0 a1) [(0, zP a0), (1, zI a1)] 23 []) : ∀ (n : Nat) (a0 : Option Nat) (a1 : Int32) (a2 : Int32), zW p l e R s m args below meth c E D tA 3 k0 (s_X6_depends_35 E k23 n a0 a1 a2) [(0, zP a0), (1, zI a1), (2, zI a2)] 35 [] := by
  intro n
  induction n with
  | zero => intro a0 a1 a2; exact z_fail
  | succ n h35 =>
    intro a0 a1 a2
    rw [s_X6_depends_35]
    refine z_iload_n (pc := 35) x 2 dX6_depends_35 rfl rfl ?_
    refine z_bipush (pc := 36) x (v := (8 : Int32)) dX6_depends_36 rfl ?_
    refine z_icmp_ge (pc := 38) (tgt := 73) x dX6_depends_38 rfl (fun _ => ?_) (fun _ => ?_)
    · refine z_iinc (pc := 73) (lv' := [(1, zI (a1 + (1 : Int32))), (0, zP a0), (2, zI a2)]) x (v2 := (a1 + (1 : Int32))) 1 dX6_depends_73 rfl rfl (Nat.le_of_ble_eq_true rfl) rfl ?_
      refine z_goto (pc := 76) (tgt := 23) x dX6_depends_76 rfl ?_
      exact z_sub [1, 0] rfl (h23 a0 (a1 + (1 : Int32)))
    · refine z_aload_n (pc := 41) x 0 dX6_depends_41 rfl rfl ?_
      refine z_get (pc := 42) (fun _ _ h => zAsR_eq h) x in_X6 (ci := 34) rfl (k := 11) (by decide) q2796 (fun _ h => h) dX6_depends_42 fun v42 => ?_
      refine z_bipush (pc := 45) x (v := (8 : Int32)) dX6_depends_45 rfl ?_
      refine z_aload_n (pc := 47) x 0 dX6_depends_47 rfl rfl ?_
      refine z_iload_n (pc := 48) x 1 dX6_depends_48 rfl rfl ?_
      refine z_iconst (pc := 49) x (v := (0 : Int32)) dX6_depends_49 rfl ?_
      refine z_call (pc := 50) (z_canV (pc := 50) (As := [zI a1, zI (0 : Int32)]) (st := [zI (8 : Int32), zP v42]) x (ci := 34) rfl (fun b => m_X6_of hl (some b) a1 (0 : Int32)) q2939 q2941 (z_selP x (ci := 34) rfl (by decide) (zNi_inst x q2780) q2940 q2941) q121 q2942 n_X6_of ⟨by decide, by decide⟩ (Nat.le_of_ble_eq_true rfl) dX6_depends_50) (zv_I fun v50 => ?_) (fun q => zx_thr x (fun z hz => (htab z hz).elim) q)
      refine z_imul (pc := 53) x dX6_depends_53 ?_
      refine z_iload_n (pc := 54) x 2 dX6_depends_54 rfl rfl ?_
      refine z_iadd (pc := 55) x dX6_depends_55 ?_
      refine z_dup2 (pc := 56) x dX6_depends_56 rfl rfl ?_
      refine z_zald (pc := 57) x (t := 2) rfl dX6_depends_57 fun v57 => ?_
      refine z_aload_n (pc := 58) x 0 dX6_depends_58 rfl rfl ?_
      refine z_iload_n (pc := 59) x 1 dX6_depends_59 rfl rfl ?_
      refine z_iload_n (pc := 60) x 2 dX6_depends_60 rfl rfl ?_
      refine z_iconst (pc := 61) x (v := (0 : Int32)) dX6_depends_61 rfl ?_
      refine z_call (pc := 62) (z_canV (pc := 62) (As := [zI a1, zI a2, zI (0 : Int32)]) (st := [zI v57, zI (((8 : Int32) * v50) + a2), zP v42]) x (ci := 34) rfl (fun b => m_X6_needsBy hl (some b) a1 a2 (0 : Int32)) q2935 q2937 (z_selP x (ci := 34) rfl (by decide) (zNi_inst x q2780) q2936 q2937) q121 q2938 n_X6_needsBy ⟨by decide, by decide⟩ (Nat.le_of_ble_eq_true rfl) dX6_depends_62) (zv_I fun v62 => ?_) (fun q => zx_thr x (fun z hz => (htab z hz).elim) q)
      refine z_ior (pc := 65) x dX6_depends_65 ?_
      refine z_zast (pc := 66) x (t := 2) rfl dX6_depends_66 ?_
      refine z_iinc (pc := 67) (lv' := [(2, zI (a2 + (1 : Int32))), (0, zP a0), (1, zI a1)]) x (v2 := (a2 + (1 : Int32))) 2 dX6_depends_67 rfl rfl (Nat.le_of_ble_eq_true rfl) rfl ?_
      refine z_goto (pc := 70) (tgt := 35) x dX6_depends_70 rfl ?_
      exact z_sub [1, 2, 0] rfl (h35 a0 a1 (a2 + (1 : Int32)))
def s_X6_depends_23 (E : zE) : Nat → Option Nat → Int32 → zM
  | 0, _, _ => zFail
  | n + 1, a0, a1 => zGetR a0 34 0 (fun v25 => zGaI 0 v25 (3 : Int32) (fun v29 => if v29 ≤ a1 then (s_X6_depends_81 E zN a0 (0 : Int32)) else (s_X6_depends_35 E (s_X6_depends_23 E n) zN a0 a1 (0 : Int32))))
theorem w_X6_depends_23 (x : zCx p l R s m args meth c E D tA cX6_depends 3 yX6_depends.cls 12) (hl : l.stackTraces = false) (hret : meth.sig.returnType = (Option.none : Option Jvm.ClassFile.FieldType)) (hnm : meth.name = yX6_depends.name) (htab : ∀ z ∈ c.exceptionTable.toList, False) : ∀ (n : Nat) (a0 : Option Nat) (a1 : Int32), zW p l e R s m args below meth c E D tA 3 k0 (s_X6_depends_23 E n a0 a1) [(0, zP a0), (1, zI a1)] 23 [] := by
  intro n
  induction n with
  | zero => intro a0 a1; exact z_fail
  | succ n h23 =>
    intro a0 a1
    rw [s_X6_depends_23]
    refine z_iload_n (pc := 23) x 1 dX6_depends_23 rfl rfl ?_
    refine z_aload_n (pc := 24) x 0 dX6_depends_24 rfl rfl ?_
    refine z_get (pc := 25) (fun _ _ h => zAsR_eq h) x in_X6 (ci := 34) rfl (k := 0) (by decide) q2785 (fun _ h => h) dX6_depends_25 fun v25 => ?_
    refine z_iconst (pc := 28) x (v := (3 : Int32)) dX6_depends_28 rfl ?_
    refine z_iald (pc := 29) x (t := 0) rfl dX6_depends_29 fun v29 => ?_
    refine z_icmp_ge (pc := 30) (tgt := 79) x dX6_depends_30 rfl (fun _ => ?_) (fun _ => ?_)
    · refine z_iconst (pc := 79) x (v := (0 : Int32)) dX6_depends_79 rfl ?_
      refine z_istore_n (pc := 80) (lv' := [(1, zI (0 : Int32)), (0, zP a0)]) x dX6_depends_80 rfl (Nat.le_of_ble_eq_true rfl) rfl ?_
      exact z_sub [1, 0] rfl (w_X6_depends_81 x hl hret hnm htab zN a0 (0 : Int32))
    · refine z_iconst (pc := 33) x (v := (0 : Int32)) dX6_depends_33 rfl ?_
      refine z_istore_n (pc := 34) (lv' := [(2, zI (0 : Int32)), (0, zP a0), (1, zI a1)]) x dX6_depends_34 rfl (Nat.le_of_ble_eq_true rfl) rfl ?_
      exact z_sub [1, 2, 0] rfl (w_X6_depends_35 x hl hret hnm htab h23 zN a0 a1 (0 : Int32))
def s_X6_depends_2 (E : zE) : Nat → Option Nat → Int32 → zM
  | 0, _, _ => zFail
  | n + 1, a0, a1 => if (64 : Int32) ≤ a1 then (s_X6_depends_23 E zN a0 (0 : Int32)) else (zGetR a0 34 11 (fun v9 => zSaI E 2 v9 a1 (vp_nar .boolean (0 : Int32)) ((s_X6_depends_2 E n) a0 (a1 + (1 : Int32)))))
theorem w_X6_depends_2 (x : zCx p l R s m args meth c E D tA cX6_depends 3 yX6_depends.cls 12) (hl : l.stackTraces = false) (hret : meth.sig.returnType = (Option.none : Option Jvm.ClassFile.FieldType)) (hnm : meth.name = yX6_depends.name) (htab : ∀ z ∈ c.exceptionTable.toList, False) : ∀ (n : Nat) (a0 : Option Nat) (a1 : Int32), zW p l e R s m args below meth c E D tA 3 k0 (s_X6_depends_2 E n a0 a1) [(0, zP a0), (1, zI a1)] 2 [] := by
  intro n
  induction n with
  | zero => intro a0 a1; exact z_fail
  | succ n h2 =>
    intro a0 a1
    rw [s_X6_depends_2]
    refine z_iload_n (pc := 2) x 1 dX6_depends_2 rfl rfl ?_
    refine z_bipush (pc := 3) x (v := (64 : Int32)) dX6_depends_3 rfl ?_
    refine z_icmp_ge (pc := 5) (tgt := 21) x dX6_depends_5 rfl (fun _ => ?_) (fun _ => ?_)
    · refine z_iconst (pc := 21) x (v := (0 : Int32)) dX6_depends_21 rfl ?_
      refine z_istore_n (pc := 22) (lv' := [(1, zI (0 : Int32)), (0, zP a0)]) x dX6_depends_22 rfl (Nat.le_of_ble_eq_true rfl) rfl ?_
      exact z_sub [1, 0] rfl (w_X6_depends_23 x hl hret hnm htab zN a0 (0 : Int32))
    · refine z_aload_n (pc := 8) x 0 dX6_depends_8 rfl rfl ?_
      refine z_get (pc := 9) (fun _ _ h => zAsR_eq h) x in_X6 (ci := 34) rfl (k := 11) (by decide) q2796 (fun _ h => h) dX6_depends_9 fun v9 => ?_
      refine z_iload_n (pc := 12) x 1 dX6_depends_12 rfl rfl ?_
      refine z_iconst (pc := 13) x (v := (0 : Int32)) dX6_depends_13 rfl ?_
      refine z_zast (pc := 14) x (t := 2) rfl dX6_depends_14 ?_
      refine z_iinc (pc := 15) (lv' := [(1, zI (a1 + (1 : Int32))), (0, zP a0)]) x (v2 := (a1 + (1 : Int32))) 1 dX6_depends_15 rfl rfl (Nat.le_of_ble_eq_true rfl) rfl ?_
      refine z_goto (pc := 18) (tgt := 2) x dX6_depends_18 rfl ?_
      exact z_sub [1, 0] rfl (h2 a0 (a1 + (1 : Int32)))
def s_X6_depends (E : zE) (a0 : Option Nat) : zM := s_X6_depends_2 E zN a0 (0 : Int32)
theorem m_X6_depends {l : Launch} {E : zE} {D : va_G} {tA : Nat → ClassId} (hl : l.stackTraces = false) (a0 : Option Nat) : zMet l E D tA yX6_depends (ws_ yX6_depends cX6_depends 3 (Option.none : Option Jvm.ClassFile.FieldType)) 12 (s_X6_depends E a0) [zP a0] := by
  refine z_met hl (by decide +kernel) (by rw [zSl_len]; exact (Nat.le_of_ble_eq_true rfl)) fun p e R s m args below meth c k0 x hret hnm htab => ?_
  refine z_lv [(0, zP a0)] rfl ?_
  unfold s_X6_depends
  refine z_iconst (pc := 0) x (v := (0 : Int32)) dX6_depends_0 rfl ?_
  refine z_istore_n (pc := 1) (lv' := [(1, zI (0 : Int32)), (0, zP a0)]) x dX6_depends_1 rfl (Nat.le_of_ble_eq_true rfl) rfl ?_
  exact z_sub [1, 0] rfl (w_X6_depends_2 x hl hret hnm htab zN a0 (0 : Int32))
/-! X6_isRecursive -/
def s_X6_isRecursive_84 (E : zE) (k39 : Option Nat → Int32 → Int32 → Int32 → Int32 → zM) (a0 : Option Nat) (a1 : Int32) (a2 : Int32) (a4 : Int32) (b0 : Int32) (b1 : Int32) : zM := k39 a0 a1 a2 (b0 ||| b1) (a4 + (1 : Int32))
theorem w_X6_isRecursive_84 (x : zCx p l R s m args meth c E D tA cX6_isRecursive 5 yX6_isRecursive.cls 13) (hl : l.stackTraces = false) (hret : meth.sig.returnType = (Option.some Jvm.ClassFile.FieldType.boolean)) (hnm : meth.name = yX6_isRecursive.name) (htab : ∀ z ∈ c.exceptionTable.toList, False) {k39 : Option Nat → Int32 → Int32 → Int32 → Int32 → zM} (h39 : ∀ (a0 : Option Nat) (a1 : Int32) (a2 : Int32) (a3 : Int32) (a4 : Int32) , zW p l e R s m args below meth c E D tA 5 k0 (k39 a0 a1 a2 a3 a4) [(0, zP a0), (1, zI a1), (2, zI a2), (3, zI a3), (4, zI a4)] 39 []) (a0 : Option Nat) (a1 : Int32) (a2 : Int32) (a4 : Int32) (b0 : Int32) (b1 : Int32) : zW p l e R s m args below meth c E D tA 5 k0 (s_X6_isRecursive_84 E k39 a0 a1 a2 a4 b0 b1) [(0, zP a0), (1, zI a1), (2, zI a2), (4, zI a4)] 84 [zI b1, zI b0] := by
  unfold s_X6_isRecursive_84
  refine z_ior (pc := 84) x dX6_isRecursive_84 ?_
  refine z_istore_n (pc := 85) (lv' := [(3, zI (b0 ||| b1)), (0, zP a0), (1, zI a1), (2, zI a2), (4, zI a4)]) x dX6_isRecursive_85 rfl (Nat.le_of_ble_eq_true rfl) rfl ?_
  refine z_iinc (pc := 86) (lv' := [(4, zI (a4 + (1 : Int32))), (3, zI (b0 ||| b1)), (0, zP a0), (1, zI a1), (2, zI a2)]) x (v2 := (a4 + (1 : Int32))) 4 dX6_isRecursive_86 rfl rfl (Nat.le_of_ble_eq_true rfl) rfl ?_
  refine z_goto (pc := 89) (tgt := 39) x dX6_isRecursive_89 rfl ?_
  exact z_sub [2, 3, 4, 1, 0] rfl (h39 a0 a1 a2 (b0 ||| b1) (a4 + (1 : Int32)))
def s_X6_isRecursive_83 (E : zE) (k39 : Option Nat → Int32 → Int32 → Int32 → Int32 → zM) (a0 : Option Nat) (a1 : Int32) (a2 : Int32) (a4 : Int32) (b0 : Int32) : zM := s_X6_isRecursive_84 E k39 a0 a1 a2 a4 b0 (0 : Int32)
theorem w_X6_isRecursive_83 (x : zCx p l R s m args meth c E D tA cX6_isRecursive 5 yX6_isRecursive.cls 13) (hl : l.stackTraces = false) (hret : meth.sig.returnType = (Option.some Jvm.ClassFile.FieldType.boolean)) (hnm : meth.name = yX6_isRecursive.name) (htab : ∀ z ∈ c.exceptionTable.toList, False) {k39 : Option Nat → Int32 → Int32 → Int32 → Int32 → zM} (h39 : ∀ (a0 : Option Nat) (a1 : Int32) (a2 : Int32) (a3 : Int32) (a4 : Int32) , zW p l e R s m args below meth c E D tA 5 k0 (k39 a0 a1 a2 a3 a4) [(0, zP a0), (1, zI a1), (2, zI a2), (3, zI a3), (4, zI a4)] 39 []) (a0 : Option Nat) (a1 : Int32) (a2 : Int32) (a4 : Int32) (b0 : Int32) : zW p l e R s m args below meth c E D tA 5 k0 (s_X6_isRecursive_83 E k39 a0 a1 a2 a4 b0) [(0, zP a0), (1, zI a1), (2, zI a2), (4, zI a4)] 83 [zI b0] := by
  unfold s_X6_isRecursive_83
  refine z_iconst (pc := 83) x (v := (0 : Int32)) dX6_isRecursive_83 rfl ?_
  exact z_sub [0, 1, 2, 3] rfl (w_X6_isRecursive_84 x hl hret hnm htab h39 a0 a1 a2 a4 b0 (0 : Int32))
def s_X6_isRecursive_79 (E : zE) (k39 : Option Nat → Int32 → Int32 → Int32 → Int32 → zM) (a0 : Option Nat) (a1 : Int32) (a2 : Int32) (a4 : Int32) (b0 : Int32) : zM := s_X6_isRecursive_84 E k39 a0 a1 a2 a4 b0 (1 : Int32)
theorem w_X6_isRecursive_79 (x : zCx p l R s m args meth c E D tA cX6_isRecursive 5 yX6_isRecursive.cls 13) (hl : l.stackTraces = false) (hret : meth.sig.returnType = (Option.some Jvm.ClassFile.FieldType.boolean)) (hnm : meth.name = yX6_isRecursive.name) (htab : ∀ z ∈ c.exceptionTable.toList, False) {k39 : Option Nat → Int32 → Int32 → Int32 → Int32 → zM} (h39 : ∀ (a0 : Option Nat) (a1 : Int32) (a2 : Int32) (a3 : Int32) (a4 : Int32) , zW p l e R s m args below meth c E D tA 5 k0 (k39 a0 a1 a2 a3 a4) [(0, zP a0), (1, zI a1), (2, zI a2), (3, zI a3), (4, zI a4)] 39 []) (a0 : Option Nat) (a1 : Int32) (a2 : Int32) (a4 : Int32) (b0 : Int32) : zW p l e R s m args below meth c E D tA 5 k0 (s_X6_isRecursive_79 E k39 a0 a1 a2 a4 b0) [(0, zP a0), (1, zI a1), (2, zI a2), (4, zI a4)] 79 [zI b0] := by
  unfold s_X6_isRecursive_79
  refine z_iconst (pc := 79) x (v := (1 : Int32)) dX6_isRecursive_79 rfl ?_
  refine z_goto (pc := 80) (tgt := 84) x dX6_isRecursive_80 rfl ?_
  exact z_sub [0, 1, 2, 3] rfl (w_X6_isRecursive_84 x hl hret hnm htab h39 a0 a1 a2 a4 b0 (1 : Int32))
def s_X6_isRecursive_39 (E : zE) : Nat → Option Nat → Int32 → Int32 → Int32 → Int32 → zM
  | 0, _, _, _, _, _ => zFail
  | n + 1, a0, a1, a2, a3, a4 => if (8 : Int32) ≤ a4 then (zRetN .boolean a3) else (zC (zRv a0 [(34, fun b => s_X6_needsBy E (some b) a1 a4 (0 : Int32))]) zThr (zKI (fun v52 => if v52 = 0 then (s_X6_isRecursive_83 E (s_X6_isRecursive_39 E n) a0 a1 a2 a4 a3) else (if a4 = a2 then (s_X6_isRecursive_79 E (s_X6_isRecursive_39 E n) a0 a1 a2 a4 a3) else (zGetR a0 34 11 (fun v65 => zGaI 2 v65 (((8 : Int32) * a4) + a2) (fun v75 => if v75 = 0 then (s_X6_isRecursive_83 E (s_X6_isRecursive_39 E n) a0 a1 a2 a4 a3) else (s_X6_isRecursive_79 E (s_X6_isRecursive_39 E n) a0 a1 a2 a4 a3))))))))
theorem w_X6_isRecursive_39 (x : zCx p l R s m args meth c E D tA cX6_isRecursive 5 yX6_isRecursive.cls 13) (hl : l.stackTraces = false) (hret : meth.sig.returnType = (Option.some Jvm.ClassFile.FieldType.boolean)) (hnm : meth.name = yX6_isRecursive.name) (htab : ∀ z ∈ c.exceptionTable.toList, False) : ∀ (n : Nat) (a0 : Option Nat) (a1 : Int32) (a2 : Int32) (a3 : Int32) (a4 : Int32), zW p l e R s m args below meth c E D tA 5 k0 (s_X6_isRecursive_39 E n a0 a1 a2 a3 a4) [(0, zP a0), (1, zI a1), (2, zI a2), (3, zI a3), (4, zI a4)] 39 [] := by
  intro n
  induction n with
  | zero => intro a0 a1 a2 a3 a4; exact z_fail
  | succ n h39 =>
    intro a0 a1 a2 a3 a4
    rw [s_X6_isRecursive_39]
    refine z_iload (pc := 39) x 4 dX6_isRecursive_39 rfl ?_
    refine z_bipush (pc := 41) x (v := (8 : Int32)) dX6_isRecursive_41 rfl ?_
    refine z_icmp_ge (pc := 43) (tgt := 92) x dX6_isRecursive_43 rfl (fun _ => ?_) (fun _ => ?_)
    · refine z_iload_n (pc := 92) x 3 dX6_isRecursive_92 rfl rfl ?_
      exact z_zret (pc := 93) x hret dX6_isRecursive_93
    · refine z_iload_n (pc := 46) x 3 dX6_isRecursive_46 rfl rfl ?_
      refine z_aload_n (pc := 47) x 0 dX6_isRecursive_47 rfl rfl ?_
      refine z_iload_n (pc := 48) x 1 dX6_isRecursive_48 rfl rfl ?_
      refine z_iload (pc := 49) x 4 dX6_isRecursive_49 rfl ?_
      refine z_iconst (pc := 51) x (v := (0 : Int32)) dX6_isRecursive_51 rfl ?_
      refine z_call (pc := 52) (z_canV (pc := 52) (As := [zI a1, zI a4, zI (0 : Int32)]) (st := [zI a3]) x (ci := 34) rfl (fun b => m_X6_needsBy hl (some b) a1 a4 (0 : Int32)) q2935 q2937 (z_selP x (ci := 34) rfl (by decide) (zNi_inst x q2780) q2936 q2937) q121 q2938 n_X6_needsBy ⟨by decide, by decide⟩ (Nat.le_of_ble_eq_true rfl) dX6_isRecursive_52) (zv_I fun v52 => ?_) (fun q => zx_thr x (fun z hz => (htab z hz).elim) q)
      refine z_if_eq (pc := 55) (tgt := 83) x dX6_isRecursive_55 rfl (fun _ => ?_) (fun _ => ?_)
      · exact z_sub [0, 1, 2, 4] rfl (w_X6_isRecursive_83 x hl hret hnm htab h39 a0 a1 a2 a4 a3)
      · refine z_iload (pc := 58) x 4 dX6_isRecursive_58 rfl ?_
        refine z_iload_n (pc := 60) x 2 dX6_isRecursive_60 rfl rfl ?_
        refine z_icmp_eq (pc := 61) (tgt := 79) x dX6_isRecursive_61 rfl (fun _ => ?_) (fun _ => ?_)
        · exact z_sub [0, 1, 2, 4] rfl (w_X6_isRecursive_79 x hl hret hnm htab h39 a0 a1 a2 a4 a3)
        · refine z_aload_n (pc := 64) x 0 dX6_isRecursive_64 rfl rfl ?_
          refine z_get (pc := 65) (fun _ _ h => zAsR_eq h) x in_X6 (ci := 34) rfl (k := 11) (by decide) q2796 (fun _ h => h) dX6_isRecursive_65 fun v65 => ?_
          refine z_bipush (pc := 68) x (v := (8 : Int32)) dX6_isRecursive_68 rfl ?_
          refine z_iload (pc := 70) x 4 dX6_isRecursive_70 rfl ?_
          refine z_imul (pc := 72) x dX6_isRecursive_72 ?_
          refine z_iload_n (pc := 73) x 2 dX6_isRecursive_73 rfl rfl ?_
          refine z_iadd (pc := 74) x dX6_isRecursive_74 ?_
          refine z_zald (pc := 75) x (t := 2) rfl dX6_isRecursive_75 fun v75 => ?_
          refine z_if_eq (pc := 76) (tgt := 83) x dX6_isRecursive_76 rfl (fun _ => ?_) (fun _ => ?_)
          · exact z_sub [0, 1, 2, 4] rfl (w_X6_isRecursive_83 x hl hret hnm htab h39 a0 a1 a2 a4 a3)
          · exact z_sub [0, 1, 2, 4] rfl (w_X6_isRecursive_79 x hl hret hnm htab h39 a0 a1 a2 a4 a3)
def s_X6_isRecursive_14 (E : zE) (a0 : Option Nat) (a1 : Int32) (b0 : Option Nat) (b1 : Int32) : zM := zC (zRv b0 [(34, fun b => s_X6_isThrown E (some b) b1 (1 : Int32))]) zThr (zKI (fun v15 => if v15 = 0 then (zC (zRv a0 [(34, fun b => s_X6_depends E (some b))]) zThr (zKV (zC (zRv a0 [(34, fun b => s_X6_of E (some b) a1 (0 : Int32))]) zThr (zKI (fun v30 => s_X6_isRecursive_39 E zN a0 a1 v30 (0 : Int32) (0 : Int32)))))) else (zRetN .boolean (0 : Int32))))
theorem w_X6_isRecursive_14 (x : zCx p l R s m args meth c E D tA cX6_isRecursive 5 yX6_isRecursive.cls 13) (hl : l.stackTraces = false) (hret : meth.sig.returnType = (Option.some Jvm.ClassFile.FieldType.boolean)) (hnm : meth.name = yX6_isRecursive.name) (htab : ∀ z ∈ c.exceptionTable.toList, False) (a0 : Option Nat) (a1 : Int32) (b0 : Option Nat) (b1 : Int32) : zW p l e R s m args below meth c E D tA 5 k0 (s_X6_isRecursive_14 E a0 a1 b0 b1) [(0, zP a0), (1, zI a1)] 14 [zI b1, zP b0] := by
  unfold s_X6_isRecursive_14
  refine z_iconst (pc := 14) x (v := (1 : Int32)) dX6_isRecursive_14 rfl ?_
  refine z_call (pc := 15) (z_canV (pc := 15) (As := [zI b1, zI (1 : Int32)]) (st := []) x (ci := 34) rfl (fun b => m_X6_isThrown hl (some b) b1 (1 : Int32)) q2898 q2900 (z_selP x (ci := 34) rfl (by decide) (zNi_inst x q2780) q2899 q2900) q121 q2901 n_X6_isThrown ⟨by decide, by decide⟩ (Nat.le_of_ble_eq_true rfl) dX6_isRecursive_15) (zv_I fun v15 => ?_) (fun q => zx_thr x (fun z hz => (htab z hz).elim) q)
  refine z_if_eq (pc := 18) (tgt := 23) x dX6_isRecursive_18 rfl (fun _ => ?_) (fun _ => ?_)
  · refine z_aload_n (pc := 23) x 0 dX6_isRecursive_23 rfl rfl ?_
    refine z_call (pc := 24) (z_canV (pc := 24) (As := []) (st := []) x (ci := 34) rfl (fun b => m_X6_depends hl (some b)) q3146 q3148 (z_selP x (ci := 34) rfl (by decide) (zNi_inst x q2780) q3147 q3148) q121 q3149 n_X6_depends ⟨by decide, by decide⟩ (Nat.le_of_ble_eq_true rfl) dX6_isRecursive_24) (zv_V ?_) (fun q => zx_thr x (fun z hz => (htab z hz).elim) q)
    refine z_aload_n (pc := 27) x 0 dX6_isRecursive_27 rfl rfl ?_
    refine z_iload_n (pc := 28) x 1 dX6_isRecursive_28 rfl rfl ?_
    refine z_iconst (pc := 29) x (v := (0 : Int32)) dX6_isRecursive_29 rfl ?_
    refine z_call (pc := 30) (z_canV (pc := 30) (As := [zI a1, zI (0 : Int32)]) (st := []) x (ci := 34) rfl (fun b => m_X6_of hl (some b) a1 (0 : Int32)) q2939 q2941 (z_selP x (ci := 34) rfl (by decide) (zNi_inst x q2780) q2940 q2941) q121 q2942 n_X6_of ⟨by decide, by decide⟩ (Nat.le_of_ble_eq_true rfl) dX6_isRecursive_30) (zv_I fun v30 => ?_) (fun q => zx_thr x (fun z hz => (htab z hz).elim) q)
    refine z_istore_n (pc := 33) (lv' := [(2, zI v30), (0, zP a0), (1, zI a1)]) x dX6_isRecursive_33 rfl (Nat.le_of_ble_eq_true rfl) rfl ?_
    refine z_iconst (pc := 34) x (v := (0 : Int32)) dX6_isRecursive_34 rfl ?_
    refine z_istore_n (pc := 35) (lv' := [(3, zI (0 : Int32)), (2, zI v30), (0, zP a0), (1, zI a1)]) x dX6_isRecursive_35 rfl (Nat.le_of_ble_eq_true rfl) rfl ?_
    refine z_iconst (pc := 36) x (v := (0 : Int32)) dX6_isRecursive_36 rfl ?_
    refine z_istore (pc := 37) (lv' := [(4, zI (0 : Int32)), (3, zI (0 : Int32)), (2, zI v30), (0, zP a0), (1, zI a1)]) x dX6_isRecursive_37 (Nat.le_of_ble_eq_true rfl) rfl ?_
    exact z_sub [3, 4, 2, 1, 0] rfl (w_X6_isRecursive_39 x hl hret hnm htab zN a0 a1 v30 (0 : Int32) (0 : Int32))
  · refine z_iconst (pc := 21) x (v := (0 : Int32)) dX6_isRecursive_21 rfl ?_
    exact z_zret (pc := 22) x hret dX6_isRecursive_22
def s_X6_isRecursive (E : zE) (a0 : Option Nat) (a1 : Int32) : zM := zC (zRv a0 [(34, fun b => s_X6_isRule E (some b) a1)]) zThr (zKI (fun v3 => if v3 = 0 then (s_X6_isRecursive_14 E a0 a1 a0 (1 : Int32)) else (s_X6_isRecursive_14 E a0 a1 a0 (0 : Int32))))
theorem m_X6_isRecursive {l : Launch} {E : zE} {D : va_G} {tA : Nat → ClassId} (hl : l.stackTraces = false) (a0 : Option Nat) (a1 : Int32) : zMet l E D tA yX6_isRecursive (ws_ yX6_isRecursive cX6_isRecursive 5 (Option.some Jvm.ClassFile.FieldType.boolean)) 13 (s_X6_isRecursive E a0 a1) [zP a0, zI a1] := by
  refine z_met hl (by decide +kernel) (by rw [zSl_len]; exact (Nat.le_of_ble_eq_true rfl)) fun p e R s m args below meth c k0 x hret hnm htab => ?_
  refine z_lv [(0, zP a0), (1, zI a1)] rfl ?_
  unfold s_X6_isRecursive
  refine z_aload_n (pc := 0) x 0 dX6_isRecursive_0 rfl rfl ?_
  refine z_aload_n (pc := 1) x 0 dX6_isRecursive_1 rfl rfl ?_
  refine z_iload_n (pc := 2) x 1 dX6_isRecursive_2 rfl rfl ?_
  refine z_call (pc := 3) (z_canV (pc := 3) (As := [zI a1]) (st := [zP a0]) x (ci := 34) rfl (fun b => m_X6_isRule hl (some b) a1) q3024 q3026 (z_selP x (ci := 34) rfl (by decide) (zNi_inst x q2780) q3025 q3026) q121 q3027 n_X6_isRule ⟨by decide, by decide⟩ (Nat.le_of_ble_eq_true rfl) dX6_isRecursive_3) (zv_I fun v3 => ?_) (fun q => zx_thr x (fun z hz => (htab z hz).elim) q)
  refine z_if_ne (pc := 6) (tgt := 13) x dX6_isRecursive_6 rfl (fun _ => ?_) (fun _ => ?_)
  · refine z_iconst (pc := 9) x (v := (1 : Int32)) dX6_isRecursive_9 rfl ?_
    refine z_goto (pc := 10) (tgt := 14) x dX6_isRecursive_10 rfl ?_
    exact z_sub [0, 1] rfl (w_X6_isRecursive_14 x hl hret hnm htab a0 a1 a0 (1 : Int32))
  · refine z_iconst (pc := 13) x (v := (0 : Int32)) dX6_isRecursive_13 rfl ?_
    exact z_sub [0, 1] rfl (w_X6_isRecursive_14 x hl hret hnm htab a0 a1 a0 (0 : Int32))
/-! X6_stepsOf -/
def s_X6_stepsOf_61 (E : zE) (k31 : Option Nat → Int32 → Int32 → Int32 → zM) (a0 : Option Nat) (a1 : Int32) (a3 : Int32) (b0 : Int32) (b1 : Int32) : zM := zC (zRv a0 [(34, fun b => s_X6_next E (some b) a1 a3)]) zThr (zKI (fun v66 => k31 a0 a1 (b0 + b1) v66))
theorem w_X6_stepsOf_61 (x : zCx p l R s m args meth c E D tA cX6_stepsOf 4 yX6_stepsOf.cls 18) (hl : l.stackTraces = false) (hret : meth.sig.returnType = (Option.some Jvm.ClassFile.FieldType.int)) (hnm : meth.name = yX6_stepsOf.name) (htab : ∀ z ∈ c.exceptionTable.toList, False) {k31 : Option Nat → Int32 → Int32 → Int32 → zM} (h31 : ∀ (a0 : Option Nat) (a1 : Int32) (a2 : Int32) (a3 : Int32) , zW p l e R s m args below meth c E D tA 4 k0 (k31 a0 a1 a2 a3) [(0, zP a0), (1, zI a1), (2, zI a2), (3, zI a3)] 31 []) (a0 : Option Nat) (a1 : Int32) (a3 : Int32) (b0 : Int32) (b1 : Int32) : zW p l e R s m args below meth c E D tA 4 k0 (s_X6_stepsOf_61 E k31 a0 a1 a3 b0 b1) [(0, zP a0), (1, zI a1), (3, zI a3)] 61 [zI b1, zI b0] := by
  unfold s_X6_stepsOf_61
  refine z_iadd (pc := 61) x dX6_stepsOf_61 ?_
  refine z_istore_n (pc := 62) (lv' := [(2, zI (b0 + b1)), (0, zP a0), (1, zI a1), (3, zI a3)]) x dX6_stepsOf_62 rfl (Nat.le_of_ble_eq_true rfl) rfl ?_
  refine z_aload_n (pc := 63) x 1 dX6_stepsOf_63 rfl rfl ?_
  refine z_iload_n (pc := 64) x 2 dX6_stepsOf_64 rfl rfl ?_
  refine z_iload_n (pc := 65) x 3 dX6_stepsOf_65 rfl rfl ?_
  refine z_call (pc := 66) (z_canV (pc := 66) (As := [zI a1, zI a3]) (st := []) x (ci := 34) rfl (fun b => m_X6_next hl (some b) a1 a3) q2983 q2985 (z_selP x (ci := 34) rfl (by decide) (zNi_inst x q2780) q2984 q2985) q121 q2986 n_X6_next ⟨by decide, by decide⟩ (Nat.le_of_ble_eq_true rfl) dX6_stepsOf_66) (zv_I fun v66 => ?_) (fun q => zx_thr x (fun z hz => (htab z hz).elim) q)
  refine z_istore_n (pc := 69) (lv' := [(3, zI v66), (2, zI (b0 + b1)), (0, zP a0), (1, zI a1)]) x dX6_stepsOf_69 rfl (Nat.le_of_ble_eq_true rfl) rfl ?_
  refine z_goto (pc := 70) (tgt := 31) x dX6_stepsOf_70 rfl ?_
  exact z_sub [2, 3, 1, 0] rfl (h31 a0 a1 (b0 + b1) v66)
def s_X6_stepsOf_60 (E : zE) (k31 : Option Nat → Int32 → Int32 → Int32 → zM) (a0 : Option Nat) (a1 : Int32) (a3 : Int32) (b0 : Int32) : zM := s_X6_stepsOf_61 E k31 a0 a1 a3 b0 (0 : Int32)
theorem w_X6_stepsOf_60 (x : zCx p l R s m args meth c E D tA cX6_stepsOf 4 yX6_stepsOf.cls 18) (hl : l.stackTraces = false) (hret : meth.sig.returnType = (Option.some Jvm.ClassFile.FieldType.int)) (hnm : meth.name = yX6_stepsOf.name) (htab : ∀ z ∈ c.exceptionTable.toList, False) {k31 : Option Nat → Int32 → Int32 → Int32 → zM} (h31 : ∀ (a0 : Option Nat) (a1 : Int32) (a2 : Int32) (a3 : Int32) , zW p l e R s m args below meth c E D tA 4 k0 (k31 a0 a1 a2 a3) [(0, zP a0), (1, zI a1), (2, zI a2), (3, zI a3)] 31 []) (a0 : Option Nat) (a1 : Int32) (a3 : Int32) (b0 : Int32) : zW p l e R s m args below meth c E D tA 4 k0 (s_X6_stepsOf_60 E k31 a0 a1 a3 b0) [(0, zP a0), (1, zI a1), (3, zI a3)] 60 [zI b0] := by
  unfold s_X6_stepsOf_60
  refine z_iconst (pc := 60) x (v := (0 : Int32)) dX6_stepsOf_60 rfl ?_
  exact z_sub [0, 1, 2] rfl (w_X6_stepsOf_61 x hl hret hnm htab h31 a0 a1 a3 b0 (0 : Int32))
def s_X6_stepsOf_31 (E : zE) : Nat → Option Nat → Int32 → Int32 → Int32 → zM
  | 0, _, _, _, _ => zFail
  | n + 1, a0, a1, a2, a3 => if (1000 : Int32) ≤ a3 then (zRet (some (.int a2))) else (zC (zRv a0 [(34, fun b => s_X6_isStep E (some b) a1 a3)]) zThr (zKI (fun v42 => if v42 = 0 then (s_X6_stepsOf_60 E (s_X6_stepsOf_31 E n) a0 a1 a3 a2) else (zC (zRv a0 [(34, fun b => s_X6_holdsAll E (some b) a1)]) zThr (zKI (fun v50 => if v50 = 0 then (s_X6_stepsOf_60 E (s_X6_stepsOf_31 E n) a0 a1 a3 a2) else (s_X6_stepsOf_61 E (s_X6_stepsOf_31 E n) a0 a1 a3 a2 (1 : Int32))))))))
theorem w_X6_stepsOf_31 (x : zCx p l R s m args meth c E D tA cX6_stepsOf 4 yX6_stepsOf.cls 18) (hl : l.stackTraces = false) (hret : meth.sig.returnType = (Option.some Jvm.ClassFile.FieldType.int)) (hnm : meth.name = yX6_stepsOf.name) (htab : ∀ z ∈ c.exceptionTable.toList, False) : ∀ (n : Nat) (a0 : Option Nat) (a1 : Int32) (a2 : Int32) (a3 : Int32), zW p l e R s m args below meth c E D tA 4 k0 (s_X6_stepsOf_31 E n a0 a1 a2 a3) [(0, zP a0), (1, zI a1), (2, zI a2), (3, zI a3)] 31 [] := by
  intro n
  induction n with
  | zero => intro a0 a1 a2 a3; exact z_fail
  | succ n h31 =>
    intro a0 a1 a2 a3
    rw [s_X6_stepsOf_31]
    refine z_iload_n (pc := 31) x 3 dX6_stepsOf_31 rfl rfl ?_
    refine z_sipush (pc := 32) x (v := (1000 : Int32)) dX6_stepsOf_32 rfl ?_
    refine z_icmp_ge (pc := 35) (tgt := 73) x dX6_stepsOf_35 rfl (fun _ => ?_) (fun _ => ?_)
    · refine z_iload_n (pc := 73) x 2 dX6_stepsOf_73 rfl rfl ?_
      exact z_iret (pc := 74) x hret dX6_stepsOf_74
    · refine z_iload_n (pc := 38) x 2 dX6_stepsOf_38 rfl rfl ?_
      refine z_aload_n (pc := 39) x 0 dX6_stepsOf_39 rfl rfl ?_
      refine z_iload_n (pc := 40) x 1 dX6_stepsOf_40 rfl rfl ?_
      refine z_iload_n (pc := 41) x 3 dX6_stepsOf_41 rfl rfl ?_
      refine z_call (pc := 42) (z_canV (pc := 42) (As := [zI a1, zI a3]) (st := [zI a2]) x (ci := 34) rfl (fun b => m_X6_isStep hl (some b) a1 a3) q2951 q2953 (z_selP x (ci := 34) rfl (by decide) (zNi_inst x q2780) q2952 q2953) q121 q2954 n_X6_isStep ⟨by decide, by decide⟩ (Nat.le_of_ble_eq_true rfl) dX6_stepsOf_42) (zv_I fun v42 => ?_) (fun q => zx_thr x (fun z hz => (htab z hz).elim) q)
      refine z_if_eq (pc := 45) (tgt := 60) x dX6_stepsOf_45 rfl (fun _ => ?_) (fun _ => ?_)
      · exact z_sub [0, 1, 3] rfl (w_X6_stepsOf_60 x hl hret hnm htab h31 a0 a1 a3 a2)
      · refine z_aload_n (pc := 48) x 0 dX6_stepsOf_48 rfl rfl ?_
        refine z_iload_n (pc := 49) x 1 dX6_stepsOf_49 rfl rfl ?_
        refine z_call (pc := 50) (z_canV (pc := 50) (As := [zI a1]) (st := [zI a2]) x (ci := 34) rfl (fun b => m_X6_holdsAll hl (some b) a1) q2963 q2965 (z_selP x (ci := 34) rfl (by decide) (zNi_inst x q2780) q2964 q2965) q121 q2966 n_X6_holdsAll ⟨by decide, by decide⟩ (Nat.le_of_ble_eq_true rfl) dX6_stepsOf_50) (zv_I fun v50 => ?_) (fun q => zx_thr x (fun z hz => (htab z hz).elim) q)
        refine z_if_eq (pc := 53) (tgt := 60) x dX6_stepsOf_53 rfl (fun _ => ?_) (fun _ => ?_)
        · exact z_sub [0, 1, 3] rfl (w_X6_stepsOf_60 x hl hret hnm htab h31 a0 a1 a3 a2)
        · refine z_iconst (pc := 56) x (v := (1 : Int32)) dX6_stepsOf_56 rfl ?_
          refine z_goto (pc := 57) (tgt := 61) x dX6_stepsOf_57 rfl ?_
          exact z_sub [0, 1, 3] rfl (w_X6_stepsOf_61 x hl hret hnm htab h31 a0 a1 a3 a2 (1 : Int32))
def s_X6_stepsOf_14 (E : zE) (a0 : Option Nat) (a1 : Int32) (b0 : Option Nat) (b1 : Int32) : zM := zC (zRv b0 [(34, fun b => s_X6_isThrown E (some b) b1 (1 : Int32))]) zThr (zKI (fun v15 => if v15 = 0 then (zC (zRv a0 [(34, fun b => s_X6_finds E (some b))]) zThr (zKV (s_X6_stepsOf_31 E zN a0 a1 (0 : Int32) (0 : Int32)))) else (zRet (some (.int (0 : Int32))))))
theorem w_X6_stepsOf_14 (x : zCx p l R s m args meth c E D tA cX6_stepsOf 4 yX6_stepsOf.cls 18) (hl : l.stackTraces = false) (hret : meth.sig.returnType = (Option.some Jvm.ClassFile.FieldType.int)) (hnm : meth.name = yX6_stepsOf.name) (htab : ∀ z ∈ c.exceptionTable.toList, False) (a0 : Option Nat) (a1 : Int32) (b0 : Option Nat) (b1 : Int32) : zW p l e R s m args below meth c E D tA 4 k0 (s_X6_stepsOf_14 E a0 a1 b0 b1) [(0, zP a0), (1, zI a1)] 14 [zI b1, zP b0] := by
  unfold s_X6_stepsOf_14
  refine z_iconst (pc := 14) x (v := (1 : Int32)) dX6_stepsOf_14 rfl ?_
  refine z_call (pc := 15) (z_canV (pc := 15) (As := [zI b1, zI (1 : Int32)]) (st := []) x (ci := 34) rfl (fun b => m_X6_isThrown hl (some b) b1 (1 : Int32)) q2898 q2900 (z_selP x (ci := 34) rfl (by decide) (zNi_inst x q2780) q2899 q2900) q121 q2901 n_X6_isThrown ⟨by decide, by decide⟩ (Nat.le_of_ble_eq_true rfl) dX6_stepsOf_15) (zv_I fun v15 => ?_) (fun q => zx_thr x (fun z hz => (htab z hz).elim) q)
  refine z_if_eq (pc := 18) (tgt := 23) x dX6_stepsOf_18 rfl (fun _ => ?_) (fun _ => ?_)
  · refine z_aload_n (pc := 23) x 0 dX6_stepsOf_23 rfl rfl ?_
    refine z_call (pc := 24) (z_canV (pc := 24) (As := []) (st := []) x (ci := 34) rfl (fun b => m_X6_finds hl (some b)) q2923 q2925 (z_selP x (ci := 34) rfl (by decide) (zNi_inst x q2780) q2924 q2925) q121 q2926 n_X6_finds ⟨by decide, by decide⟩ (Nat.le_of_ble_eq_true rfl) dX6_stepsOf_24) (zv_V ?_) (fun q => zx_thr x (fun z hz => (htab z hz).elim) q)
    refine z_iconst (pc := 27) x (v := (0 : Int32)) dX6_stepsOf_27 rfl ?_
    refine z_istore_n (pc := 28) (lv' := [(2, zI (0 : Int32)), (0, zP a0), (1, zI a1)]) x dX6_stepsOf_28 rfl (Nat.le_of_ble_eq_true rfl) rfl ?_
    refine z_iconst (pc := 29) x (v := (0 : Int32)) dX6_stepsOf_29 rfl ?_
    refine z_istore_n (pc := 30) (lv' := [(3, zI (0 : Int32)), (2, zI (0 : Int32)), (0, zP a0), (1, zI a1)]) x dX6_stepsOf_30 rfl (Nat.le_of_ble_eq_true rfl) rfl ?_
    exact z_sub [2, 3, 1, 0] rfl (w_X6_stepsOf_31 x hl hret hnm htab zN a0 a1 (0 : Int32) (0 : Int32))
  · refine z_iconst (pc := 21) x (v := (0 : Int32)) dX6_stepsOf_21 rfl ?_
    exact z_iret (pc := 22) x hret dX6_stepsOf_22
def s_X6_stepsOf (E : zE) (a0 : Option Nat) (a1 : Int32) : zM := zC (zRv a0 [(34, fun b => s_X6_isRule E (some b) a1)]) zThr (zKI (fun v3 => if v3 = 0 then (s_X6_stepsOf_14 E a0 a1 a0 (1 : Int32)) else (s_X6_stepsOf_14 E a0 a1 a0 (0 : Int32))))
theorem m_X6_stepsOf {l : Launch} {E : zE} {D : va_G} {tA : Nat → ClassId} (hl : l.stackTraces = false) (a0 : Option Nat) (a1 : Int32) : zMet l E D tA yX6_stepsOf (ws_ yX6_stepsOf cX6_stepsOf 4 (Option.some Jvm.ClassFile.FieldType.int)) 18 (s_X6_stepsOf E a0 a1) [zP a0, zI a1] := by
  refine z_met hl (by decide +kernel) (by rw [zSl_len]; exact (Nat.le_of_ble_eq_true rfl)) fun p e R s m args below meth c k0 x hret hnm htab => ?_
  refine z_lv [(0, zP a0), (1, zI a1)] rfl ?_
  unfold s_X6_stepsOf
  refine z_aload_n (pc := 0) x 0 dX6_stepsOf_0 rfl rfl ?_
  refine z_aload_n (pc := 1) x 0 dX6_stepsOf_1 rfl rfl ?_
  refine z_iload_n (pc := 2) x 1 dX6_stepsOf_2 rfl rfl ?_
  refine z_call (pc := 3) (z_canV (pc := 3) (As := [zI a1]) (st := [zP a0]) x (ci := 34) rfl (fun b => m_X6_isRule hl (some b) a1) q3024 q3026 (z_selP x (ci := 34) rfl (by decide) (zNi_inst x q2780) q3025 q3026) q121 q3027 n_X6_isRule ⟨by decide, by decide⟩ (Nat.le_of_ble_eq_true rfl) dX6_stepsOf_3) (zv_I fun v3 => ?_) (fun q => zx_thr x (fun z hz => (htab z hz).elim) q)
  refine z_if_ne (pc := 6) (tgt := 13) x dX6_stepsOf_6 rfl (fun _ => ?_) (fun _ => ?_)
  · refine z_iconst (pc := 9) x (v := (1 : Int32)) dX6_stepsOf_9 rfl ?_
    refine z_goto (pc := 10) (tgt := 14) x dX6_stepsOf_10 rfl ?_
    exact z_sub [0, 1] rfl (w_X6_stepsOf_14 x hl hret hnm htab a0 a1 a0 (1 : Int32))
  · refine z_iconst (pc := 13) x (v := (0 : Int32)) dX6_stepsOf_13 rfl ?_
    exact z_sub [0, 1] rfl (w_X6_stepsOf_14 x hl hret hnm htab a0 a1 a0 (0 : Int32))
/-! X6_layerOf -/
def s_X6_layerOf_13 (E : zE) (a0 : Option Nat) (a1 : Int32) (b0 : Option Nat) (b1 : Int32) : zM := zC (zRv b0 [(34, fun b => s_X6_isThrown E (some b) b1 (1 : Int32))]) zThr (zKI (fun v14 => if v14 = 0 then (zC (zRv a0 [(34, fun b => s_X6_layers E (some b))]) zThr (zKV (zGetR a0 34 7 (fun v27 => zGaI 0 v27 (a1 - (97 : Int32)) (fun v34 => zRet (some (.int v34))))))) else (zRet (some (.int (0 : Int32))))))
theorem w_X6_layerOf_13 (x : zCx p l R s m args meth c E D tA cX6_layerOf 2 yX6_layerOf.cls 13) (hl : l.stackTraces = false) (hret : meth.sig.returnType = (Option.some Jvm.ClassFile.FieldType.int)) (hnm : meth.name = yX6_layerOf.name) (htab : ∀ z ∈ c.exceptionTable.toList, False) (a0 : Option Nat) (a1 : Int32) (b0 : Option Nat) (b1 : Int32) : zW p l e R s m args below meth c E D tA 2 k0 (s_X6_layerOf_13 E a0 a1 b0 b1) [(0, zP a0), (1, zI a1)] 13 [zI b1, zP b0] := by
  unfold s_X6_layerOf_13
  refine z_iconst (pc := 13) x (v := (1 : Int32)) dX6_layerOf_13 rfl ?_
  refine z_call (pc := 14) (z_canV (pc := 14) (As := [zI b1, zI (1 : Int32)]) (st := []) x (ci := 34) rfl (fun b => m_X6_isThrown hl (some b) b1 (1 : Int32)) q2898 q2900 (z_selP x (ci := 34) rfl (by decide) (zNi_inst x q2780) q2899 q2900) q121 q2901 n_X6_isThrown ⟨by decide, by decide⟩ (Nat.le_of_ble_eq_true rfl) dX6_layerOf_14) (zv_I fun v14 => ?_) (fun q => zx_thr x (fun z hz => (htab z hz).elim) q)
  refine z_if_eq (pc := 17) (tgt := 22) x dX6_layerOf_17 rfl (fun _ => ?_) (fun _ => ?_)
  · refine z_aload_n (pc := 22) x 0 dX6_layerOf_22 rfl rfl ?_
    refine z_call (pc := 23) (z_canV (pc := 23) (As := []) (st := []) x (ci := 34) rfl (fun b => m_X6_layers hl (some b)) q2931 q2933 (z_selP x (ci := 34) rfl (by decide) (zNi_inst x q2780) q2932 q2933) q121 q2934 n_X6_layers ⟨by decide, by decide⟩ (Nat.le_of_ble_eq_true rfl) dX6_layerOf_23) (zv_V ?_) (fun q => zx_thr x (fun z hz => (htab z hz).elim) q)
    refine z_aload_n (pc := 26) x 0 dX6_layerOf_26 rfl rfl ?_
    refine z_get (pc := 27) (fun _ _ h => zAsR_eq h) x in_X6 (ci := 34) rfl (k := 7) (by decide) q2792 (fun _ h => h) dX6_layerOf_27 fun v27 => ?_
    refine z_iload_n (pc := 30) x 1 dX6_layerOf_30 rfl rfl ?_
    refine z_bipush (pc := 31) x (v := (97 : Int32)) dX6_layerOf_31 rfl ?_
    refine z_isub (pc := 33) x dX6_layerOf_33 ?_
    refine z_iald (pc := 34) x (t := 0) rfl dX6_layerOf_34 fun v34 => ?_
    exact z_iret (pc := 35) x hret dX6_layerOf_35
  · refine z_iconst (pc := 20) x (v := (0 : Int32)) dX6_layerOf_20 rfl ?_
    exact z_iret (pc := 21) x hret dX6_layerOf_21
def s_X6_layerOf (E : zE) (a0 : Option Nat) (a1 : Int32) : zM := zC (s_X6_isPredicate E a1) zThr (zKI (fun v2 => if v2 = 0 then (s_X6_layerOf_13 E a0 a1 a0 (1 : Int32)) else (s_X6_layerOf_13 E a0 a1 a0 (0 : Int32))))
theorem m_X6_layerOf {l : Launch} {E : zE} {D : va_G} {tA : Nat → ClassId} (hl : l.stackTraces = false) (a0 : Option Nat) (a1 : Int32) : zMet l E D tA yX6_layerOf (ws_ yX6_layerOf cX6_layerOf 2 (Option.some Jvm.ClassFile.FieldType.int)) 13 (s_X6_layerOf E a0 a1) [zP a0, zI a1] := by
  refine z_met hl (by decide +kernel) (by rw [zSl_len]; exact (Nat.le_of_ble_eq_true rfl)) fun p e R s m args below meth c k0 x hret hnm htab => ?_
  refine z_lv [(0, zP a0), (1, zI a1)] rfl ?_
  unfold s_X6_layerOf
  refine z_aload_n (pc := 0) x 0 dX6_layerOf_0 rfl rfl ?_
  refine z_iload_n (pc := 1) x 1 dX6_layerOf_1 rfl rfl ?_
  refine z_call (pc := 2) (z_canS (pc := 2) (As := [zI a1]) (st := [zP a0]) x (m_X6_isPredicate hl a1) q2892 q2893 q121 q2894 n_X6_isPredicate ⟨by decide, by decide⟩ (Nat.le_of_ble_eq_true rfl) dX6_layerOf_2) (zv_I fun v2 => ?_) (fun q => zx_thr x (fun z hz => (htab z hz).elim) q)
  refine z_if_ne (pc := 5) (tgt := 12) x dX6_layerOf_5 rfl (fun _ => ?_) (fun _ => ?_)
  · refine z_iconst (pc := 8) x (v := (1 : Int32)) dX6_layerOf_8 rfl ?_
    refine z_goto (pc := 9) (tgt := 13) x dX6_layerOf_9 rfl ?_
    exact z_sub [0, 1] rfl (w_X6_layerOf_13 x hl hret hnm htab a0 a1 a0 (1 : Int32))
  · refine z_iconst (pc := 12) x (v := (0 : Int32)) dX6_layerOf_12 rfl ?_
    exact z_sub [0, 1] rfl (w_X6_layerOf_13 x hl hret hnm htab a0 a1 a0 (0 : Int32))
/-! X6_layerByChains -/
def s_X6_layerByChains (E : zE) (a0 : Option Nat) (a1 : Int32) : zM := zC (zRv a0 [(34, fun b => s_X6_layerOf E (some b) a1)]) zThr (zKI (fun v2 => zRet (some (.int v2))))
theorem m_X6_layerByChains {l : Launch} {E : zE} {D : va_G} {tA : Nat → ClassId} (hl : l.stackTraces = false) (a0 : Option Nat) (a1 : Int32) : zMet l E D tA yX6_layerByChains (ws_ yX6_layerByChains cX6_layerByChains 2 (Option.some Jvm.ClassFile.FieldType.int)) 14 (s_X6_layerByChains E a0 a1) [zP a0, zI a1] := by
  refine z_met hl (by decide +kernel) (by rw [zSl_len]; exact (Nat.le_of_ble_eq_true rfl)) fun p e R s m args below meth c k0 x hret hnm htab => ?_
  refine z_lv [(0, zP a0), (1, zI a1)] rfl ?_
  unfold s_X6_layerByChains
  refine z_aload_n (pc := 0) x 0 dX6_layerByChains_0 rfl rfl ?_
  refine z_iload_n (pc := 1) x 1 dX6_layerByChains_1 rfl rfl ?_
  refine z_call (pc := 2) (z_canV (pc := 2) (As := [zI a1]) (st := []) x (ci := 34) rfl (fun b => m_X6_layerOf hl (some b) a1) q3162 q3155 (x.2.2.2.2.1 _ q3156) q121 q3157 n_X6_layerOf ⟨by decide, by decide⟩ (Nat.le_of_ble_eq_true rfl) dX6_layerByChains_2) (zv_I fun v2 => ?_) (fun q => zx_thr x (fun z hz => (htab z hz).elim) q)
  exact z_iret (pc := 5) x hret dX6_layerByChains_5
/-! X6_dependsOn -/
def s_X6_dependsOn_20 (E : zE) (a0 : Option Nat) (a1 : Int32) (a2 : Int32) (b0 : Option Nat) (b1 : Int32) : zM := zC (zRv b0 [(34, fun b => s_X6_isThrown E (some b) b1 (1 : Int32))]) zThr (zKI (fun v21 => if v21 = 0 then (zC (zRv a0 [(34, fun b => s_X6_depends E (some b))]) zThr (zKV (zGetR a0 34 11 (fun v34 => zGaI 2 v34 ((((8 : Int32) * (a1 - (97 : Int32))) + a2) - (97 : Int32)) (fun v49 => zRetN .boolean v49))))) else (zRetN .boolean (0 : Int32))))
theorem w_X6_dependsOn_20 (x : zCx p l R s m args meth c E D tA cX6_dependsOn 3 yX6_dependsOn.cls 13) (hl : l.stackTraces = false) (hret : meth.sig.returnType = (Option.some Jvm.ClassFile.FieldType.boolean)) (hnm : meth.name = yX6_dependsOn.name) (htab : ∀ z ∈ c.exceptionTable.toList, False) (a0 : Option Nat) (a1 : Int32) (a2 : Int32) (b0 : Option Nat) (b1 : Int32) : zW p l e R s m args below meth c E D tA 3 k0 (s_X6_dependsOn_20 E a0 a1 a2 b0 b1) [(0, zP a0), (1, zI a1), (2, zI a2)] 20 [zI b1, zP b0] := by
  unfold s_X6_dependsOn_20
  refine z_iconst (pc := 20) x (v := (1 : Int32)) dX6_dependsOn_20 rfl ?_
  refine z_call (pc := 21) (z_canV (pc := 21) (As := [zI b1, zI (1 : Int32)]) (st := []) x (ci := 34) rfl (fun b => m_X6_isThrown hl (some b) b1 (1 : Int32)) q2898 q2900 (z_selP x (ci := 34) rfl (by decide) (zNi_inst x q2780) q2899 q2900) q121 q2901 n_X6_isThrown ⟨by decide, by decide⟩ (Nat.le_of_ble_eq_true rfl) dX6_dependsOn_21) (zv_I fun v21 => ?_) (fun q => zx_thr x (fun z hz => (htab z hz).elim) q)
  refine z_if_eq (pc := 24) (tgt := 29) x dX6_dependsOn_24 rfl (fun _ => ?_) (fun _ => ?_)
  · refine z_aload_n (pc := 29) x 0 dX6_dependsOn_29 rfl rfl ?_
    refine z_call (pc := 30) (z_canV (pc := 30) (As := []) (st := []) x (ci := 34) rfl (fun b => m_X6_depends hl (some b)) q3146 q3148 (z_selP x (ci := 34) rfl (by decide) (zNi_inst x q2780) q3147 q3148) q121 q3149 n_X6_depends ⟨by decide, by decide⟩ (Nat.le_of_ble_eq_true rfl) dX6_dependsOn_30) (zv_V ?_) (fun q => zx_thr x (fun z hz => (htab z hz).elim) q)
    refine z_aload_n (pc := 33) x 0 dX6_dependsOn_33 rfl rfl ?_
    refine z_get (pc := 34) (fun _ _ h => zAsR_eq h) x in_X6 (ci := 34) rfl (k := 11) (by decide) q2796 (fun _ h => h) dX6_dependsOn_34 fun v34 => ?_
    refine z_bipush (pc := 37) x (v := (8 : Int32)) dX6_dependsOn_37 rfl ?_
    refine z_iload_n (pc := 39) x 1 dX6_dependsOn_39 rfl rfl ?_
    refine z_bipush (pc := 40) x (v := (97 : Int32)) dX6_dependsOn_40 rfl ?_
    refine z_isub (pc := 42) x dX6_dependsOn_42 ?_
    refine z_imul (pc := 43) x dX6_dependsOn_43 ?_
    refine z_iload_n (pc := 44) x 2 dX6_dependsOn_44 rfl rfl ?_
    refine z_iadd (pc := 45) x dX6_dependsOn_45 ?_
    refine z_bipush (pc := 46) x (v := (97 : Int32)) dX6_dependsOn_46 rfl ?_
    refine z_isub (pc := 48) x dX6_dependsOn_48 ?_
    refine z_zald (pc := 49) x (t := 2) rfl dX6_dependsOn_49 fun v49 => ?_
    exact z_zret (pc := 50) x hret dX6_dependsOn_50
  · refine z_iconst (pc := 27) x (v := (0 : Int32)) dX6_dependsOn_27 rfl ?_
    exact z_zret (pc := 28) x hret dX6_dependsOn_28
def s_X6_dependsOn_15 (E : zE) (a0 : Option Nat) (a1 : Int32) (a2 : Int32) (b0 : Option Nat) : zM := s_X6_dependsOn_20 E a0 a1 a2 b0 (1 : Int32)
theorem w_X6_dependsOn_15 (x : zCx p l R s m args meth c E D tA cX6_dependsOn 3 yX6_dependsOn.cls 13) (hl : l.stackTraces = false) (hret : meth.sig.returnType = (Option.some Jvm.ClassFile.FieldType.boolean)) (hnm : meth.name = yX6_dependsOn.name) (htab : ∀ z ∈ c.exceptionTable.toList, False) (a0 : Option Nat) (a1 : Int32) (a2 : Int32) (b0 : Option Nat) : zW p l e R s m args below meth c E D tA 3 k0 (s_X6_dependsOn_15 E a0 a1 a2 b0) [(0, zP a0), (1, zI a1), (2, zI a2)] 15 [zP b0] := by
  unfold s_X6_dependsOn_15
  refine z_iconst (pc := 15) x (v := (1 : Int32)) dX6_dependsOn_15 rfl ?_
  refine z_goto (pc := 16) (tgt := 20) x dX6_dependsOn_16 rfl ?_
  exact z_sub [0, 1, 2] rfl (w_X6_dependsOn_20 x hl hret hnm htab a0 a1 a2 b0 (1 : Int32))
def s_X6_dependsOn (E : zE) (a0 : Option Nat) (a1 : Int32) (a2 : Int32) : zM := zC (s_X6_isPredicate E a1) zThr (zKI (fun v2 => if v2 = 0 then (s_X6_dependsOn_15 E a0 a1 a2 a0) else (zC (s_X6_isPredicate E a2) zThr (zKI (fun v9 => if v9 = 0 then (s_X6_dependsOn_15 E a0 a1 a2 a0) else (s_X6_dependsOn_20 E a0 a1 a2 a0 (0 : Int32)))))))
theorem m_X6_dependsOn {l : Launch} {E : zE} {D : va_G} {tA : Nat → ClassId} (hl : l.stackTraces = false) (a0 : Option Nat) (a1 : Int32) (a2 : Int32) : zMet l E D tA yX6_dependsOn (ws_ yX6_dependsOn cX6_dependsOn 3 (Option.some Jvm.ClassFile.FieldType.boolean)) 13 (s_X6_dependsOn E a0 a1 a2) [zP a0, zI a1, zI a2] := by
  refine z_met hl (by decide +kernel) (by rw [zSl_len]; exact (Nat.le_of_ble_eq_true rfl)) fun p e R s m args below meth c k0 x hret hnm htab => ?_
  refine z_lv [(0, zP a0), (1, zI a1), (2, zI a2)] rfl ?_
  unfold s_X6_dependsOn
  refine z_aload_n (pc := 0) x 0 dX6_dependsOn_0 rfl rfl ?_
  refine z_iload_n (pc := 1) x 1 dX6_dependsOn_1 rfl rfl ?_
  refine z_call (pc := 2) (z_canS (pc := 2) (As := [zI a1]) (st := [zP a0]) x (m_X6_isPredicate hl a1) q2892 q2893 q121 q2894 n_X6_isPredicate ⟨by decide, by decide⟩ (Nat.le_of_ble_eq_true rfl) dX6_dependsOn_2) (zv_I fun v2 => ?_) (fun q => zx_thr x (fun z hz => (htab z hz).elim) q)
  refine z_if_eq (pc := 5) (tgt := 15) x dX6_dependsOn_5 rfl (fun _ => ?_) (fun _ => ?_)
  · exact z_sub [0, 1, 2] rfl (w_X6_dependsOn_15 x hl hret hnm htab a0 a1 a2 a0)
  · refine z_iload_n (pc := 8) x 2 dX6_dependsOn_8 rfl rfl ?_
    refine z_call (pc := 9) (z_canS (pc := 9) (As := [zI a2]) (st := [zP a0]) x (m_X6_isPredicate hl a2) q2892 q2893 q121 q2894 n_X6_isPredicate ⟨by decide, by decide⟩ (Nat.le_of_ble_eq_true rfl) dX6_dependsOn_9) (zv_I fun v9 => ?_) (fun q => zx_thr x (fun z hz => (htab z hz).elim) q)
    refine z_if_ne (pc := 12) (tgt := 19) x dX6_dependsOn_12 rfl (fun _ => ?_) (fun _ => ?_)
    · exact z_sub [0, 1, 2] rfl (w_X6_dependsOn_15 x hl hret hnm htab a0 a1 a2 a0)
    · refine z_iconst (pc := 19) x (v := (0 : Int32)) dX6_dependsOn_19 rfl ?_
      exact z_sub [0, 1, 2] rfl (w_X6_dependsOn_20 x hl hret hnm htab a0 a1 a2 a0 (0 : Int32))
/-! X6_givenByAccounts -/
def s_X6_givenByAccounts (E : zE) (a0 : Option Nat) : zM := zSet E a0 34 13 (zVal (zI (0 : Int32))) (zGetR a0 34 0 (fun v6 => zGaI 0 v6 (1 : Int32) (fun v10 => zGetR a0 34 0 (fun v12 => zGaI 0 v12 (2 : Int32) (fun v16 => zRet (some (.int (v10 - v16))))))))
theorem m_X6_givenByAccounts {l : Launch} {E : zE} {D : va_G} {tA : Nat → ClassId} (hl : l.stackTraces = false) (a0 : Option Nat) : zMet l E D tA yX6_givenByAccounts (ws_ yX6_givenByAccounts cX6_givenByAccounts 1 (Option.some Jvm.ClassFile.FieldType.int)) 9 (s_X6_givenByAccounts E a0) [zP a0] := by
  refine z_met hl (by decide +kernel) (by rw [zSl_len]; exact (Nat.le_of_ble_eq_true rfl)) fun p e R s m args below meth c k0 x hret hnm htab => ?_
  refine z_lv [(0, zP a0)] rfl ?_
  unfold s_X6_givenByAccounts
  refine z_aload_n (pc := 0) x 0 dX6_givenByAccounts_0 rfl rfl ?_
  refine z_iconst (pc := 1) x (v := (0 : Int32)) dX6_givenByAccounts_1 rfl ?_
  refine z_set (pc := 2) (v := zI (0 : Int32)) x in_X6 tyX6 tyX6_ok nmX6 (ci := 34) rfl (k := 13) (by decide) q2798 (fun _ h => h) rfl rfl rfl dX6_givenByAccounts_2 ?_
  refine z_aload_n (pc := 5) x 0 dX6_givenByAccounts_5 rfl rfl ?_
  refine z_get (pc := 6) (fun _ _ h => zAsR_eq h) x in_X6 (ci := 34) rfl (k := 0) (by decide) q2785 (fun _ h => h) dX6_givenByAccounts_6 fun v6 => ?_
  refine z_iconst (pc := 9) x (v := (1 : Int32)) dX6_givenByAccounts_9 rfl ?_
  refine z_iald (pc := 10) x (t := 0) rfl dX6_givenByAccounts_10 fun v10 => ?_
  refine z_aload_n (pc := 11) x 0 dX6_givenByAccounts_11 rfl rfl ?_
  refine z_get (pc := 12) (fun _ _ h => zAsR_eq h) x in_X6 (ci := 34) rfl (k := 0) (by decide) q2785 (fun _ h => h) dX6_givenByAccounts_12 fun v12 => ?_
  refine z_iconst (pc := 15) x (v := (2 : Int32)) dX6_givenByAccounts_15 rfl ?_
  refine z_iald (pc := 16) x (t := 0) rfl dX6_givenByAccounts_16 fun v16 => ?_
  refine z_isub (pc := 17) x dX6_givenByAccounts_17 ?_
  exact z_iret (pc := 18) x hret dX6_givenByAccounts_18
/-! X6_reason -/
def s_X6_reason_13 (E : zE) (a0 : Option Nat) (b0 : Option Nat) (b1 : Int32) : zM := zC (zRv b0 [(34, fun b => s_X6_isThrown E (some b) b1 (1 : Int32))]) zThr (zKI (fun v14 => if v14 = 0 then (zGetI a0 34 17 (fun v25 => zRet (some (.int v25)))) else (zRet (some (.int (0 : Int32))))))
theorem w_X6_reason_13 (x : zCx p l R s m args meth c E D tA cX6_reason 1 yX6_reason.cls 10) (hl : l.stackTraces = false) (hret : meth.sig.returnType = (Option.some Jvm.ClassFile.FieldType.int)) (hnm : meth.name = yX6_reason.name) (htab : ∀ z ∈ c.exceptionTable.toList, False) (a0 : Option Nat) (b0 : Option Nat) (b1 : Int32) : zW p l e R s m args below meth c E D tA 1 k0 (s_X6_reason_13 E a0 b0 b1) [(0, zP a0)] 13 [zI b1, zP b0] := by
  unfold s_X6_reason_13
  refine z_iconst (pc := 13) x (v := (1 : Int32)) dX6_reason_13 rfl ?_
  refine z_call (pc := 14) (z_canV (pc := 14) (As := [zI b1, zI (1 : Int32)]) (st := []) x (ci := 34) rfl (fun b => m_X6_isThrown hl (some b) b1 (1 : Int32)) q2898 q2900 (z_selP x (ci := 34) rfl (by decide) (zNi_inst x q2780) q2899 q2900) q121 q2901 n_X6_isThrown ⟨by decide, by decide⟩ (Nat.le_of_ble_eq_true rfl) dX6_reason_14) (zv_I fun v14 => ?_) (fun q => zx_thr x (fun z hz => (htab z hz).elim) q)
  refine z_if_eq (pc := 17) (tgt := 24) x dX6_reason_17 rfl (fun _ => ?_) (fun _ => ?_)
  · refine z_aload_n (pc := 24) x 0 dX6_reason_24 rfl rfl ?_
    refine z_get (pc := 25) (fun _ _ h => zAsI_eq h) x in_X6 (ci := 34) rfl (k := 17) (by decide) q2802 (fun _ h => h) dX6_reason_25 fun v25 => ?_
    exact z_iret (pc := 28) x hret dX6_reason_28
  · refine z_iconst (pc := 20) x (v := (0 : Int32)) dX6_reason_20 rfl ?_
    refine z_goto (pc := 21) (tgt := 28) x dX6_reason_21 rfl ?_
    exact z_iret (pc := 28) x hret dX6_reason_28
def s_X6_reason (E : zE) (a0 : Option Nat) : zM := zGetI a0 34 17 (fun v2 => if v2 = 0 then (s_X6_reason_13 E a0 a0 (1 : Int32)) else (s_X6_reason_13 E a0 a0 (0 : Int32)))
theorem m_X6_reason {l : Launch} {E : zE} {D : va_G} {tA : Nat → ClassId} (hl : l.stackTraces = false) (a0 : Option Nat) : zMet l E D tA yX6_reason (ws_ yX6_reason cX6_reason 1 (Option.some Jvm.ClassFile.FieldType.int)) 10 (s_X6_reason E a0) [zP a0] := by
  refine z_met hl (by decide +kernel) (by rw [zSl_len]; exact (Nat.le_of_ble_eq_true rfl)) fun p e R s m args below meth c k0 x hret hnm htab => ?_
  refine z_lv [(0, zP a0)] rfl ?_
  unfold s_X6_reason
  refine z_aload_n (pc := 0) x 0 dX6_reason_0 rfl rfl ?_
  refine z_aload_n (pc := 1) x 0 dX6_reason_1 rfl rfl ?_
  refine z_get (pc := 2) (fun _ _ h => zAsI_eq h) x in_X6 (ci := 34) rfl (k := 17) (by decide) q2802 (fun _ h => h) dX6_reason_2 fun v2 => ?_
  refine z_if_ne (pc := 5) (tgt := 12) x dX6_reason_5 rfl (fun _ => ?_) (fun _ => ?_)
  · refine z_iconst (pc := 8) x (v := (1 : Int32)) dX6_reason_8 rfl ?_
    refine z_goto (pc := 9) (tgt := 13) x dX6_reason_9 rfl ?_
    exact z_sub [0] rfl (w_X6_reason_13 x hl hret hnm htab a0 a0 (1 : Int32))
  · refine z_iconst (pc := 12) x (v := (0 : Int32)) dX6_reason_12 rfl ?_
    exact z_sub [0] rfl (w_X6_reason_13 x hl hret hnm htab a0 a0 (0 : Int32))
/-! X6_detail -/
def s_X6_detail_13 (E : zE) (a0 : Option Nat) (b0 : Option Nat) (b1 : Int32) : zM := zC (zRv b0 [(34, fun b => s_X6_isThrown E (some b) b1 (1 : Int32))]) zThr (zKI (fun v14 => if v14 = 0 then (zGetI a0 34 18 (fun v25 => zRet (some (.int v25)))) else (zRet (some (.int (0 : Int32))))))
theorem w_X6_detail_13 (x : zCx p l R s m args meth c E D tA cX6_detail 1 yX6_detail.cls 10) (hl : l.stackTraces = false) (hret : meth.sig.returnType = (Option.some Jvm.ClassFile.FieldType.int)) (hnm : meth.name = yX6_detail.name) (htab : ∀ z ∈ c.exceptionTable.toList, False) (a0 : Option Nat) (b0 : Option Nat) (b1 : Int32) : zW p l e R s m args below meth c E D tA 1 k0 (s_X6_detail_13 E a0 b0 b1) [(0, zP a0)] 13 [zI b1, zP b0] := by
  unfold s_X6_detail_13
  refine z_iconst (pc := 13) x (v := (1 : Int32)) dX6_detail_13 rfl ?_
  refine z_call (pc := 14) (z_canV (pc := 14) (As := [zI b1, zI (1 : Int32)]) (st := []) x (ci := 34) rfl (fun b => m_X6_isThrown hl (some b) b1 (1 : Int32)) q2898 q2900 (z_selP x (ci := 34) rfl (by decide) (zNi_inst x q2780) q2899 q2900) q121 q2901 n_X6_isThrown ⟨by decide, by decide⟩ (Nat.le_of_ble_eq_true rfl) dX6_detail_14) (zv_I fun v14 => ?_) (fun q => zx_thr x (fun z hz => (htab z hz).elim) q)
  refine z_if_eq (pc := 17) (tgt := 24) x dX6_detail_17 rfl (fun _ => ?_) (fun _ => ?_)
  · refine z_aload_n (pc := 24) x 0 dX6_detail_24 rfl rfl ?_
    refine z_get (pc := 25) (fun _ _ h => zAsI_eq h) x in_X6 (ci := 34) rfl (k := 18) (by decide) q2803 (fun _ h => h) dX6_detail_25 fun v25 => ?_
    exact z_iret (pc := 28) x hret dX6_detail_28
  · refine z_iconst (pc := 20) x (v := (0 : Int32)) dX6_detail_20 rfl ?_
    refine z_goto (pc := 21) (tgt := 28) x dX6_detail_21 rfl ?_
    exact z_iret (pc := 28) x hret dX6_detail_28
def s_X6_detail (E : zE) (a0 : Option Nat) : zM := zGetI a0 34 17 (fun v2 => if v2 = 0 then (s_X6_detail_13 E a0 a0 (1 : Int32)) else (s_X6_detail_13 E a0 a0 (0 : Int32)))
theorem m_X6_detail {l : Launch} {E : zE} {D : va_G} {tA : Nat → ClassId} (hl : l.stackTraces = false) (a0 : Option Nat) : zMet l E D tA yX6_detail (ws_ yX6_detail cX6_detail 1 (Option.some Jvm.ClassFile.FieldType.int)) 10 (s_X6_detail E a0) [zP a0] := by
  refine z_met hl (by decide +kernel) (by rw [zSl_len]; exact (Nat.le_of_ble_eq_true rfl)) fun p e R s m args below meth c k0 x hret hnm htab => ?_
  refine z_lv [(0, zP a0)] rfl ?_
  unfold s_X6_detail
  refine z_aload_n (pc := 0) x 0 dX6_detail_0 rfl rfl ?_
  refine z_aload_n (pc := 1) x 0 dX6_detail_1 rfl rfl ?_
  refine z_get (pc := 2) (fun _ _ h => zAsI_eq h) x in_X6 (ci := 34) rfl (k := 17) (by decide) q2802 (fun _ h => h) dX6_detail_2 fun v2 => ?_
  refine z_if_ne (pc := 5) (tgt := 12) x dX6_detail_5 rfl (fun _ => ?_) (fun _ => ?_)
  · refine z_iconst (pc := 8) x (v := (1 : Int32)) dX6_detail_8 rfl ?_
    refine z_goto (pc := 9) (tgt := 13) x dX6_detail_9 rfl ?_
    exact z_sub [0] rfl (w_X6_detail_13 x hl hret hnm htab a0 a0 (1 : Int32))
  · refine z_iconst (pc := 12) x (v := (0 : Int32)) dX6_detail_12 rfl ?_
    exact z_sub [0] rfl (w_X6_detail_13 x hl hret hnm htab a0 a0 (0 : Int32))
/-! X6_meanHeight -/
def s_X6_meanHeight_58 (E : zE) (a1 : Int32) (a2 : Int32) (b0 : Option Nat) (b1 : Int32) : zM := zC (zRv b0 [(34, fun b => s_X6_isThrown E (some b) b1 (1 : Int32))]) zThr (zKI (fun v59 => if v59 = 0 then (zNn64 (FP.ddiv ((FP.i2d a2)) ((FP.i2d a1))) (fun v73 => zRet (some (.double v73)))) else (zRet (some (.double FP.dconst0)))))
theorem w_X6_meanHeight_58 (x : zCx p l R s m args meth c E D tA cX6_meanHeight 4 yX6_meanHeight.cls 19) (hl : l.stackTraces = false) (hret : meth.sig.returnType = (Option.some Jvm.ClassFile.FieldType.double)) (hnm : meth.name = yX6_meanHeight.name) (htab : ∀ z ∈ c.exceptionTable.toList, False) (a1 : Int32) (a2 : Int32) (b0 : Option Nat) (b1 : Int32) : zW p l e R s m args below meth c E D tA 4 k0 (s_X6_meanHeight_58 E a1 a2 b0 b1) [(1, zI a1), (2, zI a2)] 58 [zI b1, zP b0] := by
  unfold s_X6_meanHeight_58
  refine z_iconst (pc := 58) x (v := (1 : Int32)) dX6_meanHeight_58 rfl ?_
  refine z_call (pc := 59) (z_canV (pc := 59) (As := [zI b1, zI (1 : Int32)]) (st := []) x (ci := 34) rfl (fun b => m_X6_isThrown hl (some b) b1 (1 : Int32)) q2898 q2900 (z_selP x (ci := 34) rfl (by decide) (zNi_inst x q2780) q2899 q2900) q121 q2901 n_X6_isThrown ⟨by decide, by decide⟩ (Nat.le_of_ble_eq_true rfl) dX6_meanHeight_59) (zv_I fun v59 => ?_) (fun q => zx_thr x (fun z hz => (htab z hz).elim) q)
  refine z_if_eq (pc := 62) (tgt := 69) x dX6_meanHeight_62 rfl (fun _ => ?_) (fun _ => ?_)
  · refine z_iload_n (pc := 69) x 1 dX6_meanHeight_69 rfl rfl ?_
    refine z_i2d (pc := 70) x dX6_meanHeight_70 ?_
    refine z_iload_n (pc := 71) x 0 dX6_meanHeight_71 rfl rfl ?_
    refine z_i2d (pc := 72) x dX6_meanHeight_72 ?_
    refine z_ddiv (pc := 73) x dX6_meanHeight_73 fun v73 => ?_
    exact z_dret (pc := 74) x hret dX6_meanHeight_74
  · refine z_dconst0 (pc := 65) x dX6_meanHeight_65 ?_
    refine z_goto (pc := 66) (tgt := 74) x dX6_meanHeight_66 rfl ?_
    exact z_dret (pc := 74) x hret dX6_meanHeight_74
def s_X6_meanHeight_40 (E : zE) (k13 : Option Nat → Int32 → Int32 → Int32 → zM) (a0 : Option Nat) (a1 : Int32) (a3 : Int32) (b0 : Int32) (b1 : Int32) : zM := k13 a0 a1 (b0 + b1) (a3 + (1 : Int32))
theorem w_X6_meanHeight_40 (x : zCx p l R s m args meth c E D tA cX6_meanHeight 4 yX6_meanHeight.cls 19) (hl : l.stackTraces = false) (hret : meth.sig.returnType = (Option.some Jvm.ClassFile.FieldType.double)) (hnm : meth.name = yX6_meanHeight.name) (htab : ∀ z ∈ c.exceptionTable.toList, False) {k13 : Option Nat → Int32 → Int32 → Int32 → zM} (h13 : ∀ (a0 : Option Nat) (a1 : Int32) (a2 : Int32) (a3 : Int32) , zW p l e R s m args below meth c E D tA 4 k0 (k13 a0 a1 a2 a3) [(0, zP a0), (1, zI a1), (2, zI a2), (3, zI a3)] 13 []) (a0 : Option Nat) (a1 : Int32) (a3 : Int32) (b0 : Int32) (b1 : Int32) : zW p l e R s m args below meth c E D tA 4 k0 (s_X6_meanHeight_40 E k13 a0 a1 a3 b0 b1) [(0, zP a0), (1, zI a1), (3, zI a3)] 40 [zI b1, zI b0] := by
  unfold s_X6_meanHeight_40
  refine z_iadd (pc := 40) x dX6_meanHeight_40 ?_
  refine z_istore_n (pc := 41) (lv' := [(2, zI (b0 + b1)), (0, zP a0), (1, zI a1), (3, zI a3)]) x dX6_meanHeight_41 rfl (Nat.le_of_ble_eq_true rfl) rfl ?_
  refine z_iinc (pc := 42) (lv' := [(3, zI (a3 + (1 : Int32))), (2, zI (b0 + b1)), (0, zP a0), (1, zI a1)]) x (v2 := (a3 + (1 : Int32))) 3 dX6_meanHeight_42 rfl rfl (Nat.le_of_ble_eq_true rfl) rfl ?_
  refine z_goto (pc := 45) (tgt := 13) x dX6_meanHeight_45 rfl ?_
  exact z_sub [2, 3, 1, 0] rfl (h13 a0 a1 (b0 + b1) (a3 + (1 : Int32)))
def s_X6_meanHeight_13 (E : zE) : Nat → Option Nat → Int32 → Int32 → Int32 → zM
  | 0, _, _, _, _ => zFail
  | n + 1, a0, a1, a2, a3 => if (440 : Int32) ≤ a3 then (if a1 = 0 then (s_X6_meanHeight_58 E a1 a2 a0 (1 : Int32)) else (s_X6_meanHeight_58 E a1 a2 a0 (0 : Int32))) else (zGetR a0 34 9 (fun v22 => zGaI 2 v22 a3 (fun v26 => if v26 = 0 then (s_X6_meanHeight_40 E (s_X6_meanHeight_13 E n) a0 a1 a3 a2 (0 : Int32)) else (zGetR a0 34 4 (fun v31 => zGaI 0 v31 a3 (fun v35 => s_X6_meanHeight_40 E (s_X6_meanHeight_13 E n) a0 a1 a3 a2 v35))))))
theorem w_X6_meanHeight_13 (x : zCx p l R s m args meth c E D tA cX6_meanHeight 4 yX6_meanHeight.cls 19) (hl : l.stackTraces = false) (hret : meth.sig.returnType = (Option.some Jvm.ClassFile.FieldType.double)) (hnm : meth.name = yX6_meanHeight.name) (htab : ∀ z ∈ c.exceptionTable.toList, False) : ∀ (n : Nat) (a0 : Option Nat) (a1 : Int32) (a2 : Int32) (a3 : Int32), zW p l e R s m args below meth c E D tA 4 k0 (s_X6_meanHeight_13 E n a0 a1 a2 a3) [(0, zP a0), (1, zI a1), (2, zI a2), (3, zI a3)] 13 [] := by
  intro n
  induction n with
  | zero => intro a0 a1 a2 a3; exact z_fail
  | succ n h13 =>
    intro a0 a1 a2 a3
    rw [s_X6_meanHeight_13]
    refine z_iload_n (pc := 13) x 3 dX6_meanHeight_13 rfl rfl ?_
    refine z_sipush (pc := 14) x (v := (440 : Int32)) dX6_meanHeight_14 rfl ?_
    refine z_icmp_ge (pc := 17) (tgt := 48) x dX6_meanHeight_17 rfl (fun _ => ?_) (fun _ => ?_)
    · refine z_aload_n (pc := 48) x 0 dX6_meanHeight_48 rfl rfl ?_
      refine z_iload_n (pc := 49) x 1 dX6_meanHeight_49 rfl rfl ?_
      refine z_if_ne (pc := 50) (tgt := 57) x dX6_meanHeight_50 rfl (fun _ => ?_) (fun _ => ?_)
      · refine z_iconst (pc := 53) x (v := (1 : Int32)) dX6_meanHeight_53 rfl ?_
        refine z_goto (pc := 54) (tgt := 58) x dX6_meanHeight_54 rfl ?_
        exact z_sub [1, 2] rfl (w_X6_meanHeight_58 x hl hret hnm htab a1 a2 a0 (1 : Int32))
      · refine z_iconst (pc := 57) x (v := (0 : Int32)) dX6_meanHeight_57 rfl ?_
        exact z_sub [1, 2] rfl (w_X6_meanHeight_58 x hl hret hnm htab a1 a2 a0 (0 : Int32))
    · refine z_iload_n (pc := 20) x 2 dX6_meanHeight_20 rfl rfl ?_
      refine z_aload_n (pc := 21) x 0 dX6_meanHeight_21 rfl rfl ?_
      refine z_get (pc := 22) (fun _ _ h => zAsR_eq h) x in_X6 (ci := 34) rfl (k := 9) (by decide) q2794 (fun _ h => h) dX6_meanHeight_22 fun v22 => ?_
      refine z_iload_n (pc := 25) x 3 dX6_meanHeight_25 rfl rfl ?_
      refine z_zald (pc := 26) x (t := 2) rfl dX6_meanHeight_26 fun v26 => ?_
      refine z_if_eq (pc := 27) (tgt := 39) x dX6_meanHeight_27 rfl (fun _ => ?_) (fun _ => ?_)
      · refine z_iconst (pc := 39) x (v := (0 : Int32)) dX6_meanHeight_39 rfl ?_
        exact z_sub [0, 1, 3] rfl (w_X6_meanHeight_40 x hl hret hnm htab h13 a0 a1 a3 a2 (0 : Int32))
      · refine z_aload_n (pc := 30) x 0 dX6_meanHeight_30 rfl rfl ?_
        refine z_get (pc := 31) (fun _ _ h => zAsR_eq h) x in_X6 (ci := 34) rfl (k := 4) (by decide) q2789 (fun _ h => h) dX6_meanHeight_31 fun v31 => ?_
        refine z_iload_n (pc := 34) x 3 dX6_meanHeight_34 rfl rfl ?_
        refine z_iald (pc := 35) x (t := 0) rfl dX6_meanHeight_35 fun v35 => ?_
        refine z_goto (pc := 36) (tgt := 40) x dX6_meanHeight_36 rfl ?_
        exact z_sub [0, 1, 3] rfl (w_X6_meanHeight_40 x hl hret hnm htab h13 a0 a1 a3 a2 v35)
def s_X6_meanHeight (E : zE) (a0 : Option Nat) : zM := zC (zRv a0 [(34, fun b => s_X6_trueMany E (some b) (0 : Int32) (440 : Int32))]) zThr (zKI (fun v5 => s_X6_meanHeight_13 E zN a0 v5 (0 : Int32) (0 : Int32)))
theorem m_X6_meanHeight {l : Launch} {E : zE} {D : va_G} {tA : Nat → ClassId} (hl : l.stackTraces = false) (a0 : Option Nat) : zMet l E D tA yX6_meanHeight (ws_ yX6_meanHeight cX6_meanHeight 4 (Option.some Jvm.ClassFile.FieldType.double)) 19 (s_X6_meanHeight E a0) [zP a0] := by
  refine z_met hl (by decide +kernel) (by rw [zSl_len]; exact (Nat.le_of_ble_eq_true rfl)) fun p e R s m args below meth c k0 x hret hnm htab => ?_
  refine z_lv [(0, zP a0)] rfl ?_
  unfold s_X6_meanHeight
  refine z_aload_n (pc := 0) x 0 dX6_meanHeight_0 rfl rfl ?_
  refine z_iconst (pc := 1) x (v := (0 : Int32)) dX6_meanHeight_1 rfl ?_
  refine z_sipush (pc := 2) x (v := (440 : Int32)) dX6_meanHeight_2 rfl ?_
  refine z_call (pc := 5) (z_canV (pc := 5) (As := [zI (0 : Int32), zI (440 : Int32)]) (st := []) x (ci := 34) rfl (fun b => m_X6_trueMany hl (some b) (0 : Int32) (440 : Int32)) q3055 q3057 (z_selP x (ci := 34) rfl (by decide) (zNi_inst x q2780) q3056 q3057) q121 q3058 n_X6_trueMany ⟨by decide, by decide⟩ (Nat.le_of_ble_eq_true rfl) dX6_meanHeight_5) (zv_I fun v5 => ?_) (fun q => zx_thr x (fun z hz => (htab z hz).elim) q)
  refine z_istore_n (pc := 8) (lv' := [(1, zI v5), (0, zP a0)]) x dX6_meanHeight_8 rfl (Nat.le_of_ble_eq_true rfl) rfl ?_
  refine z_iconst (pc := 9) x (v := (0 : Int32)) dX6_meanHeight_9 rfl ?_
  refine z_istore_n (pc := 10) (lv' := [(2, zI (0 : Int32)), (1, zI v5), (0, zP a0)]) x dX6_meanHeight_10 rfl (Nat.le_of_ble_eq_true rfl) rfl ?_
  refine z_iconst (pc := 11) x (v := (0 : Int32)) dX6_meanHeight_11 rfl ?_
  refine z_istore_n (pc := 12) (lv' := [(3, zI (0 : Int32)), (2, zI (0 : Int32)), (1, zI v5), (0, zP a0)]) x dX6_meanHeight_12 rfl (Nat.le_of_ble_eq_true rfl) rfl ?_
  exact z_sub [3, 2, 1, 0] rfl (w_X6_meanHeight_13 x hl hret hnm htab zN a0 v5 (0 : Int32) (0 : Int32))
/-! X6_derivedShare -/
def s_X6_derivedShare_19 (E : zE) (a0 : Option Nat) (a1 : Int32) (b0 : Option Nat) (b1 : Int32) : zM := zC (zRv b0 [(34, fun b => s_X6_isThrown E (some b) b1 (1 : Int32))]) zThr (zKI (fun v20 => if v20 = 0 then (zGetR a0 34 0 (fun v32 => zGaI 0 v32 (0 : Int32) (fun v36 => zNn32 (FP.fdiv ((FP.i2f (a1 - v36))) ((FP.i2f a1))) (fun v41 => zRet (some (.float v41)))))) else (zRet (some (.float FP.fconst0)))))
theorem w_X6_derivedShare_19 (x : zCx p l R s m args meth c E D tA cX6_derivedShare 2 yX6_derivedShare.cls 19) (hl : l.stackTraces = false) (hret : meth.sig.returnType = (Option.some Jvm.ClassFile.FieldType.float)) (hnm : meth.name = yX6_derivedShare.name) (htab : ∀ z ∈ c.exceptionTable.toList, False) (a0 : Option Nat) (a1 : Int32) (b0 : Option Nat) (b1 : Int32) : zW p l e R s m args below meth c E D tA 2 k0 (s_X6_derivedShare_19 E a0 a1 b0 b1) [(0, zP a0), (1, zI a1)] 19 [zI b1, zP b0] := by
  unfold s_X6_derivedShare_19
  refine z_iconst (pc := 19) x (v := (1 : Int32)) dX6_derivedShare_19 rfl ?_
  refine z_call (pc := 20) (z_canV (pc := 20) (As := [zI b1, zI (1 : Int32)]) (st := []) x (ci := 34) rfl (fun b => m_X6_isThrown hl (some b) b1 (1 : Int32)) q2898 q2900 (z_selP x (ci := 34) rfl (by decide) (zNi_inst x q2780) q2899 q2900) q121 q2901 n_X6_isThrown ⟨by decide, by decide⟩ (Nat.le_of_ble_eq_true rfl) dX6_derivedShare_20) (zv_I fun v20 => ?_) (fun q => zx_thr x (fun z hz => (htab z hz).elim) q)
  refine z_if_eq (pc := 23) (tgt := 30) x dX6_derivedShare_23 rfl (fun _ => ?_) (fun _ => ?_)
  · refine z_iload_n (pc := 30) x 1 dX6_derivedShare_30 rfl rfl ?_
    refine z_aload_n (pc := 31) x 0 dX6_derivedShare_31 rfl rfl ?_
    refine z_get (pc := 32) (fun _ _ h => zAsR_eq h) x in_X6 (ci := 34) rfl (k := 0) (by decide) q2785 (fun _ h => h) dX6_derivedShare_32 fun v32 => ?_
    refine z_iconst (pc := 35) x (v := (0 : Int32)) dX6_derivedShare_35 rfl ?_
    refine z_iald (pc := 36) x (t := 0) rfl dX6_derivedShare_36 fun v36 => ?_
    refine z_isub (pc := 37) x dX6_derivedShare_37 ?_
    refine z_i2f (pc := 38) x dX6_derivedShare_38 ?_
    refine z_iload_n (pc := 39) x 1 dX6_derivedShare_39 rfl rfl ?_
    refine z_i2f (pc := 40) x dX6_derivedShare_40 ?_
    refine z_fdiv (pc := 41) x dX6_derivedShare_41 fun v41 => ?_
    exact z_fret (pc := 42) x hret dX6_derivedShare_42
  · refine z_fconst0 (pc := 26) x dX6_derivedShare_26 ?_
    refine z_goto (pc := 27) (tgt := 42) x dX6_derivedShare_27 rfl ?_
    exact z_fret (pc := 42) x hret dX6_derivedShare_42
def s_X6_derivedShare (E : zE) (a0 : Option Nat) : zM := zC (zRv a0 [(34, fun b => s_X6_trueMany E (some b) (0 : Int32) (440 : Int32))]) zThr (zKI (fun v5 => if v5 = 0 then (s_X6_derivedShare_19 E a0 v5 a0 (1 : Int32)) else (s_X6_derivedShare_19 E a0 v5 a0 (0 : Int32))))
theorem m_X6_derivedShare {l : Launch} {E : zE} {D : va_G} {tA : Nat → ClassId} (hl : l.stackTraces = false) (a0 : Option Nat) : zMet l E D tA yX6_derivedShare (ws_ yX6_derivedShare cX6_derivedShare 2 (Option.some Jvm.ClassFile.FieldType.float)) 19 (s_X6_derivedShare E a0) [zP a0] := by
  refine z_met hl (by decide +kernel) (by rw [zSl_len]; exact (Nat.le_of_ble_eq_true rfl)) fun p e R s m args below meth c k0 x hret hnm htab => ?_
  refine z_lv [(0, zP a0)] rfl ?_
  unfold s_X6_derivedShare
  refine z_aload_n (pc := 0) x 0 dX6_derivedShare_0 rfl rfl ?_
  refine z_iconst (pc := 1) x (v := (0 : Int32)) dX6_derivedShare_1 rfl ?_
  refine z_sipush (pc := 2) x (v := (440 : Int32)) dX6_derivedShare_2 rfl ?_
  refine z_call (pc := 5) (z_canV (pc := 5) (As := [zI (0 : Int32), zI (440 : Int32)]) (st := []) x (ci := 34) rfl (fun b => m_X6_trueMany hl (some b) (0 : Int32) (440 : Int32)) q3055 q3057 (z_selP x (ci := 34) rfl (by decide) (zNi_inst x q2780) q3056 q3057) q121 q3058 n_X6_trueMany ⟨by decide, by decide⟩ (Nat.le_of_ble_eq_true rfl) dX6_derivedShare_5) (zv_I fun v5 => ?_) (fun q => zx_thr x (fun z hz => (htab z hz).elim) q)
  refine z_istore_n (pc := 8) (lv' := [(1, zI v5), (0, zP a0)]) x dX6_derivedShare_8 rfl (Nat.le_of_ble_eq_true rfl) rfl ?_
  refine z_aload_n (pc := 9) x 1 dX6_derivedShare_9 rfl rfl ?_
  refine z_iload_n (pc := 10) x 0 dX6_derivedShare_10 rfl rfl ?_
  refine z_if_ne (pc := 11) (tgt := 18) x dX6_derivedShare_11 rfl (fun _ => ?_) (fun _ => ?_)
  · refine z_iconst (pc := 14) x (v := (1 : Int32)) dX6_derivedShare_14 rfl ?_
    refine z_goto (pc := 15) (tgt := 19) x dX6_derivedShare_15 rfl ?_
    exact z_sub [1, 0] rfl (w_X6_derivedShare_19 x hl hret hnm htab a0 v5 a0 (1 : Int32))
  · refine z_iconst (pc := 18) x (v := (0 : Int32)) dX6_derivedShare_18 rfl ?_
    exact z_sub [1, 0] rfl (w_X6_derivedShare_19 x hl hret hnm htab a0 v5 a0 (0 : Int32))
/-! X6_isConsistent -/
def s_X6_isConsistent (E : zE) (a0 : Option Nat) : zM := zSet E a0 34 13 (zVal (zI (0 : Int32))) (zGetR a0 34 0 (fun v6 => zGaI 0 v6 (0 : Int32) (fun v10 => zGetR a0 34 0 (fun v12 => zGaI 0 v12 (1 : Int32) (fun v16 => zGetR a0 34 0 (fun v18 => zGaI 0 v18 (2 : Int32) (fun v22 => if v10 = (v16 - v22) then (zRetN .boolean (1 : Int32)) else (zRetN .boolean (0 : Int32)))))))))
theorem m_X6_isConsistent {l : Launch} {E : zE} {D : va_G} {tA : Nat → ClassId} (hl : l.stackTraces = false) (a0 : Option Nat) : zMet l E D tA yX6_isConsistent (ws_ yX6_isConsistent cX6_isConsistent 1 (Option.some Jvm.ClassFile.FieldType.boolean)) 9 (s_X6_isConsistent E a0) [zP a0] := by
  refine z_met hl (by decide +kernel) (by rw [zSl_len]; exact (Nat.le_of_ble_eq_true rfl)) fun p e R s m args below meth c k0 x hret hnm htab => ?_
  refine z_lv [(0, zP a0)] rfl ?_
  unfold s_X6_isConsistent
  refine z_aload_n (pc := 0) x 0 dX6_isConsistent_0 rfl rfl ?_
  refine z_iconst (pc := 1) x (v := (0 : Int32)) dX6_isConsistent_1 rfl ?_
  refine z_set (pc := 2) (v := zI (0 : Int32)) x in_X6 tyX6 tyX6_ok nmX6 (ci := 34) rfl (k := 13) (by decide) q2798 (fun _ h => h) rfl rfl rfl dX6_isConsistent_2 ?_
  refine z_aload_n (pc := 5) x 0 dX6_isConsistent_5 rfl rfl ?_
  refine z_get (pc := 6) (fun _ _ h => zAsR_eq h) x in_X6 (ci := 34) rfl (k := 0) (by decide) q2785 (fun _ h => h) dX6_isConsistent_6 fun v6 => ?_
  refine z_iconst (pc := 9) x (v := (0 : Int32)) dX6_isConsistent_9 rfl ?_
  refine z_iald (pc := 10) x (t := 0) rfl dX6_isConsistent_10 fun v10 => ?_
  refine z_aload_n (pc := 11) x 0 dX6_isConsistent_11 rfl rfl ?_
  refine z_get (pc := 12) (fun _ _ h => zAsR_eq h) x in_X6 (ci := 34) rfl (k := 0) (by decide) q2785 (fun _ h => h) dX6_isConsistent_12 fun v12 => ?_
  refine z_iconst (pc := 15) x (v := (1 : Int32)) dX6_isConsistent_15 rfl ?_
  refine z_iald (pc := 16) x (t := 0) rfl dX6_isConsistent_16 fun v16 => ?_
  refine z_aload_n (pc := 17) x 0 dX6_isConsistent_17 rfl rfl ?_
  refine z_get (pc := 18) (fun _ _ h => zAsR_eq h) x in_X6 (ci := 34) rfl (k := 0) (by decide) q2785 (fun _ h => h) dX6_isConsistent_18 fun v18 => ?_
  refine z_iconst (pc := 21) x (v := (2 : Int32)) dX6_isConsistent_21 rfl ?_
  refine z_iald (pc := 22) x (t := 0) rfl dX6_isConsistent_22 fun v22 => ?_
  refine z_isub (pc := 23) x dX6_isConsistent_23 ?_
  refine z_icmp_ne (pc := 24) (tgt := 31) x dX6_isConsistent_24 rfl (fun _ => ?_) (fun _ => ?_)
  · refine z_iconst (pc := 27) x (v := (1 : Int32)) dX6_isConsistent_27 rfl ?_
    refine z_goto (pc := 28) (tgt := 32) x dX6_isConsistent_28 rfl ?_
    exact z_zret (pc := 32) x hret dX6_isConsistent_32
  · refine z_iconst (pc := 31) x (v := (0 : Int32)) dX6_isConsistent_31 rfl ?_
    exact z_zret (pc := 32) x hret dX6_isConsistent_32
/-! X6_append -/
def s_X6_append_15 (E : zE) (a0 : Option Nat) (a1 : Int32) (b0 : Option Nat) (b1 : Int32) : zM := zC (zRv b0 [(34, fun b => s_X6_isThrown E (some b) b1 (1 : Int32))]) zThr (zKI (fun v16 => if v16 = 0 then (zGetR a0 34 21 (fun v25 => zGetI a0 34 23 (fun v29 => zSaI E 0 v25 v29 a1 (zGetI a0 34 23 (fun v36 => zSet E a0 34 23 (zVal (zI (v36 + (1 : Int32)))) (zGetI a0 34 23 (fun v45 => zRet (some (.int v45))))))))) else (zRet (some (.int (0 : Int32))))))
theorem w_X6_append_15 (x : zCx p l R s m args meth c E D tA cX6_append 2 yX6_append.cls 10) (hl : l.stackTraces = false) (hret : meth.sig.returnType = (Option.some Jvm.ClassFile.FieldType.int)) (hnm : meth.name = yX6_append.name) (htab : ∀ z ∈ c.exceptionTable.toList, False) (a0 : Option Nat) (a1 : Int32) (b0 : Option Nat) (b1 : Int32) : zW p l e R s m args below meth c E D tA 2 k0 (s_X6_append_15 E a0 a1 b0 b1) [(0, zP a0), (1, zI a1)] 15 [zI b1, zP b0] := by
  unfold s_X6_append_15
  refine z_iconst (pc := 15) x (v := (1 : Int32)) dX6_append_15 rfl ?_
  refine z_call (pc := 16) (z_canV (pc := 16) (As := [zI b1, zI (1 : Int32)]) (st := []) x (ci := 34) rfl (fun b => m_X6_isThrown hl (some b) b1 (1 : Int32)) q2898 q2900 (z_selP x (ci := 34) rfl (by decide) (zNi_inst x q2780) q2899 q2900) q121 q2901 n_X6_isThrown ⟨by decide, by decide⟩ (Nat.le_of_ble_eq_true rfl) dX6_append_16) (zv_I fun v16 => ?_) (fun q => zx_thr x (fun z hz => (htab z hz).elim) q)
  refine z_if_eq (pc := 19) (tgt := 24) x dX6_append_19 rfl (fun _ => ?_) (fun _ => ?_)
  · refine z_aload_n (pc := 24) x 0 dX6_append_24 rfl rfl ?_
    refine z_get (pc := 25) (fun _ _ h => zAsR_eq h) x in_X6 (ci := 34) rfl (k := 21) (by decide) q2806 (fun _ h => h) dX6_append_25 fun v25 => ?_
    refine z_aload_n (pc := 28) x 0 dX6_append_28 rfl rfl ?_
    refine z_get (pc := 29) (fun _ _ h => zAsI_eq h) x in_X6 (ci := 34) rfl (k := 23) (by decide) q2808 (fun _ h => h) dX6_append_29 fun v29 => ?_
    refine z_iload_n (pc := 32) x 1 dX6_append_32 rfl rfl ?_
    refine z_iast (pc := 33) x (t := 0) rfl dX6_append_33 ?_
    refine z_aload_n (pc := 34) x 0 dX6_append_34 rfl rfl ?_
    refine z_dup (pc := 35) x dX6_append_35 rfl ?_
    refine z_get (pc := 36) (fun _ _ h => zAsI_eq h) x in_X6 (ci := 34) rfl (k := 23) (by decide) q2808 (fun _ h => h) dX6_append_36 fun v36 => ?_
    refine z_iconst (pc := 39) x (v := (1 : Int32)) dX6_append_39 rfl ?_
    refine z_iadd (pc := 40) x dX6_append_40 ?_
    refine z_set (pc := 41) (v := zI (v36 + (1 : Int32))) x in_X6 tyX6 tyX6_ok nmX6 (ci := 34) rfl (k := 23) (by decide) q2808 (fun _ h => h) rfl rfl rfl dX6_append_41 ?_
    refine z_aload_n (pc := 44) x 0 dX6_append_44 rfl rfl ?_
    refine z_get (pc := 45) (fun _ _ h => zAsI_eq h) x in_X6 (ci := 34) rfl (k := 23) (by decide) q2808 (fun _ h => h) dX6_append_45 fun v45 => ?_
    exact z_iret (pc := 48) x hret dX6_append_48
  · refine z_iconst (pc := 22) x (v := (0 : Int32)) dX6_append_22 rfl ?_
    exact z_iret (pc := 23) x hret dX6_append_23
def s_X6_append (E : zE) (a0 : Option Nat) (a1 : Int32) : zM := zGetI a0 34 23 (fun v2 => if v2 = (60 : Int32) then (s_X6_append_15 E a0 a1 a0 (1 : Int32)) else (s_X6_append_15 E a0 a1 a0 (0 : Int32)))
theorem m_X6_append {l : Launch} {E : zE} {D : va_G} {tA : Nat → ClassId} (hl : l.stackTraces = false) (a0 : Option Nat) (a1 : Int32) : zMet l E D tA yX6_append (ws_ yX6_append cX6_append 2 (Option.some Jvm.ClassFile.FieldType.int)) 10 (s_X6_append E a0 a1) [zP a0, zI a1] := by
  refine z_met hl (by decide +kernel) (by rw [zSl_len]; exact (Nat.le_of_ble_eq_true rfl)) fun p e R s m args below meth c k0 x hret hnm htab => ?_
  refine z_lv [(0, zP a0), (1, zI a1)] rfl ?_
  unfold s_X6_append
  refine z_aload_n (pc := 0) x 0 dX6_append_0 rfl rfl ?_
  refine z_aload_n (pc := 1) x 0 dX6_append_1 rfl rfl ?_
  refine z_get (pc := 2) (fun _ _ h => zAsI_eq h) x in_X6 (ci := 34) rfl (k := 23) (by decide) q2808 (fun _ h => h) dX6_append_2 fun v2 => ?_
  refine z_bipush (pc := 5) x (v := (60 : Int32)) dX6_append_5 rfl ?_
  refine z_icmp_ne (pc := 7) (tgt := 14) x dX6_append_7 rfl (fun _ => ?_) (fun _ => ?_)
  · refine z_iconst (pc := 10) x (v := (1 : Int32)) dX6_append_10 rfl ?_
    refine z_goto (pc := 11) (tgt := 15) x dX6_append_11 rfl ?_
    exact z_sub [0, 1] rfl (w_X6_append_15 x hl hret hnm htab a0 a1 a0 (1 : Int32))
  · refine z_iconst (pc := 14) x (v := (0 : Int32)) dX6_append_14 rfl ?_
    exact z_sub [0, 1] rfl (w_X6_append_15 x hl hret hnm htab a0 a1 a0 (0 : Int32))
/-! X6_now -/
def s_X6_now (E : zE) (a0 : Option Nat) : zM := zGetI a0 34 24 (fun v1 => zGetI a0 34 23 (fun v5 => if v5 ≤ v1 then (zRet (some (.int (-1 : Int32)))) else (zGetR a0 34 21 (fun v12 => zGetI a0 34 24 (fun v16 => zGaI 0 v12 v16 (fun v19 => zRet (some (.int v19))))))))
theorem m_X6_now {l : Launch} {E : zE} {D : va_G} {tA : Nat → ClassId} (hl : l.stackTraces = false) (a0 : Option Nat) : zMet l E D tA yX6_now (ws_ yX6_now cX6_now 1 (Option.some Jvm.ClassFile.FieldType.int)) 9 (s_X6_now E a0) [zP a0] := by
  refine z_met hl (by decide +kernel) (by rw [zSl_len]; exact (Nat.le_of_ble_eq_true rfl)) fun p e R s m args below meth c k0 x hret hnm htab => ?_
  refine z_lv [(0, zP a0)] rfl ?_
  unfold s_X6_now
  refine z_aload_n (pc := 0) x 0 dX6_now_0 rfl rfl ?_
  refine z_get (pc := 1) (fun _ _ h => zAsI_eq h) x in_X6 (ci := 34) rfl (k := 24) (by decide) q2809 (fun _ h => h) dX6_now_1 fun v1 => ?_
  refine z_aload_n (pc := 4) x 0 dX6_now_4 rfl rfl ?_
  refine z_get (pc := 5) (fun _ _ h => zAsI_eq h) x in_X6 (ci := 34) rfl (k := 23) (by decide) q2808 (fun _ h => h) dX6_now_5 fun v5 => ?_
  refine z_icmp_ge (pc := 8) (tgt := 23) x dX6_now_8 rfl (fun _ => ?_) (fun _ => ?_)
  · refine z_iconst (pc := 23) x (v := (-1 : Int32)) dX6_now_23 rfl ?_
    exact z_iret (pc := 24) x hret dX6_now_24
  · refine z_aload_n (pc := 11) x 0 dX6_now_11 rfl rfl ?_
    refine z_get (pc := 12) (fun _ _ h => zAsR_eq h) x in_X6 (ci := 34) rfl (k := 21) (by decide) q2806 (fun _ h => h) dX6_now_12 fun v12 => ?_
    refine z_aload_n (pc := 15) x 0 dX6_now_15 rfl rfl ?_
    refine z_get (pc := 16) (fun _ _ h => zAsI_eq h) x in_X6 (ci := 34) rfl (k := 24) (by decide) q2809 (fun _ h => h) dX6_now_16 fun v16 => ?_
    refine z_iald (pc := 19) x (t := 0) rfl dX6_now_19 fun v19 => ?_
    refine z_goto (pc := 20) (tgt := 24) x dX6_now_20 rfl ?_
    exact z_iret (pc := 24) x hret dX6_now_24
/-! X6_isSign -/
def s_X6_isSign_28 (E : zE) (a2 : Int32) (b0 : Option Nat) (b1 : Int32) (b2 : Int32) : zM := zSet E b0 34 24 (zVal (zI (b1 + b2))) (zRetN .boolean a2)
theorem w_X6_isSign_28 (x : zCx p l R s m args meth c E D tA cX6_isSign 3 yX6_isSign.cls 10) (hl : l.stackTraces = false) (hret : meth.sig.returnType = (Option.some Jvm.ClassFile.FieldType.boolean)) (hnm : meth.name = yX6_isSign.name) (htab : ∀ z ∈ c.exceptionTable.toList, False) (a2 : Int32) (b0 : Option Nat) (b1 : Int32) (b2 : Int32) : zW p l e R s m args below meth c E D tA 3 k0 (s_X6_isSign_28 E a2 b0 b1 b2) [(2, zI a2)] 28 [zI b2, zI b1, zP b0] := by
  unfold s_X6_isSign_28
  refine z_iadd (pc := 28) x dX6_isSign_28 ?_
  refine z_set (pc := 29) (v := zI (b1 + b2)) x in_X6 tyX6 tyX6_ok nmX6 (ci := 34) rfl (k := 24) (by decide) q2809 (fun _ h => h) rfl rfl rfl dX6_isSign_29 ?_
  refine z_iload_n (pc := 32) x 0 dX6_isSign_32 rfl rfl ?_
  exact z_zret (pc := 33) x hret dX6_isSign_33
def s_X6_isSign_13 (E : zE) (a0 : Option Nat) (b0 : Int32) : zM := zGetI a0 34 24 (fun v16 => if b0 = 0 then (s_X6_isSign_28 E b0 a0 v16 (0 : Int32)) else (s_X6_isSign_28 E b0 a0 v16 (1 : Int32)))
theorem w_X6_isSign_13 (x : zCx p l R s m args meth c E D tA cX6_isSign 3 yX6_isSign.cls 10) (hl : l.stackTraces = false) (hret : meth.sig.returnType = (Option.some Jvm.ClassFile.FieldType.boolean)) (hnm : meth.name = yX6_isSign.name) (htab : ∀ z ∈ c.exceptionTable.toList, False) (a0 : Option Nat) (b0 : Int32) : zW p l e R s m args below meth c E D tA 3 k0 (s_X6_isSign_13 E a0 b0) [(0, zP a0)] 13 [zI b0] := by
  unfold s_X6_isSign_13
  refine z_istore_n (pc := 13) (lv' := [(2, zI b0), (0, zP a0)]) x dX6_isSign_13 rfl (Nat.le_of_ble_eq_true rfl) rfl ?_
  refine z_aload_n (pc := 14) x 1 dX6_isSign_14 rfl rfl ?_
  refine z_dup (pc := 15) x dX6_isSign_15 rfl ?_
  refine z_get (pc := 16) (fun _ _ h => zAsI_eq h) x in_X6 (ci := 34) rfl (k := 24) (by decide) q2809 (fun _ h => h) dX6_isSign_16 fun v16 => ?_
  refine z_iload_n (pc := 19) x 0 dX6_isSign_19 rfl rfl ?_
  refine z_if_eq (pc := 20) (tgt := 27) x dX6_isSign_20 rfl (fun _ => ?_) (fun _ => ?_)
  · refine z_iconst (pc := 27) x (v := (0 : Int32)) dX6_isSign_27 rfl ?_
    exact z_sub [0] rfl (w_X6_isSign_28 x hl hret hnm htab b0 a0 v16 (0 : Int32))
  · refine z_iconst (pc := 23) x (v := (1 : Int32)) dX6_isSign_23 rfl ?_
    refine z_goto (pc := 24) (tgt := 28) x dX6_isSign_24 rfl ?_
    exact z_sub [0] rfl (w_X6_isSign_28 x hl hret hnm htab b0 a0 v16 (1 : Int32))
def s_X6_isSign (E : zE) (a0 : Option Nat) (a1 : Int32) : zM := zC (zRv a0 [(34, fun b => s_X6_now E (some b))]) zThr (zKI (fun v1 => if v1 = a1 then (s_X6_isSign_13 E a0 (1 : Int32)) else (s_X6_isSign_13 E a0 (0 : Int32))))
theorem m_X6_isSign {l : Launch} {E : zE} {D : va_G} {tA : Nat → ClassId} (hl : l.stackTraces = false) (a0 : Option Nat) (a1 : Int32) : zMet l E D tA yX6_isSign (ws_ yX6_isSign cX6_isSign 3 (Option.some Jvm.ClassFile.FieldType.boolean)) 10 (s_X6_isSign E a0 a1) [zP a0, zI a1] := by
  refine z_met hl (by decide +kernel) (by rw [zSl_len]; exact (Nat.le_of_ble_eq_true rfl)) fun p e R s m args below meth c k0 x hret hnm htab => ?_
  refine z_lv [(0, zP a0), (1, zI a1)] rfl ?_
  unfold s_X6_isSign
  refine z_aload_n (pc := 0) x 0 dX6_isSign_0 rfl rfl ?_
  refine z_call (pc := 1) (z_canV (pc := 1) (As := []) (st := []) x (ci := 34) rfl (fun b => m_X6_now hl (some b)) q3207 q3209 (z_selP x (ci := 34) rfl (by decide) (zNi_inst x q2780) q3208 q3209) q121 q3210 n_X6_now ⟨by decide, by decide⟩ (Nat.le_of_ble_eq_true rfl) dX6_isSign_1) (zv_I fun v1 => ?_) (fun q => zx_thr x (fun z hz => (htab z hz).elim) q)
  refine z_iload_n (pc := 4) x 1 dX6_isSign_4 rfl rfl ?_
  refine z_icmp_ne (pc := 5) (tgt := 12) x dX6_isSign_5 rfl (fun _ => ?_) (fun _ => ?_)
  · refine z_iconst (pc := 8) x (v := (1 : Int32)) dX6_isSign_8 rfl ?_
    refine z_goto (pc := 9) (tgt := 13) x dX6_isSign_9 rfl ?_
    exact z_sub [0] rfl (w_X6_isSign_13 x hl hret hnm htab a0 (1 : Int32))
  · refine z_iconst (pc := 12) x (v := (0 : Int32)) dX6_isSign_12 rfl ?_
    exact z_sub [0] rfl (w_X6_isSign_13 x hl hret hnm htab a0 (0 : Int32))
/-! X6_isWord -/
def s_X6_isWord_2 (E : zE) : Nat → Option Nat → Option Nat → Int32 → zM
  | 0, _, _, _ => zFail
  | n + 1, a0, a1, a2 => zC (zRv a1 [(15, fun b => s_J6_length E (some b))]) zThr (zKI (fun v4 => if v4 ≤ a2 then (zRetN .boolean (1 : Int32)) else (zC (zRv a1 [(15, fun b => s_J6_charAt E (some b) a2)]) zThr (zKI (fun v13 => zC (zRv a0 [(34, fun b => s_X6_isSign E (some b) v13)]) zThr (zKI (fun v16 => if v16 = 0 then (zRetN .boolean (0 : Int32)) else ((s_X6_isWord_2 E n) a0 a1 (a2 + (1 : Int32))))))))))
theorem w_X6_isWord_2 (x : zCx p l R s m args meth c E D tA cX6_isWord 3 yX6_isWord.cls 14) (hl : l.stackTraces = false) (hret : meth.sig.returnType = (Option.some Jvm.ClassFile.FieldType.boolean)) (hnm : meth.name = yX6_isWord.name) (htab : ∀ z ∈ c.exceptionTable.toList, False) : ∀ (n : Nat) (a0 : Option Nat) (a1 : Option Nat) (a2 : Int32), zW p l e R s m args below meth c E D tA 3 k0 (s_X6_isWord_2 E n a0 a1 a2) [(0, zP a0), (1, zP a1), (2, zI a2)] 2 [] := by
  intro n
  induction n with
  | zero => intro a0 a1 a2; exact z_fail
  | succ n h2 =>
    intro a0 a1 a2
    rw [s_X6_isWord_2]
    refine z_iload_n (pc := 2) x 2 dX6_isWord_2 rfl rfl ?_
    refine z_aload_n (pc := 3) x 1 dX6_isWord_3 rfl rfl ?_
    refine z_call (pc := 4) (z_canV (pc := 4) (As := []) (st := [zI a2]) x (ci := 15) rfl (fun b => m_J6_length hl (some b)) q3220 q1283 (x.2.2.2.2.1 _ q1284) q119 q1285 n_J6_length ⟨by decide, by decide⟩ (Nat.le_of_ble_eq_true rfl) dX6_isWord_4) (zv_I fun v4 => ?_) (fun q => zx_thr x (fun z hz => (htab z hz).elim) q)
    refine z_icmp_ge (pc := 7) (tgt := 30) x dX6_isWord_7 rfl (fun _ => ?_) (fun _ => ?_)
    · refine z_iconst (pc := 30) x (v := (1 : Int32)) dX6_isWord_30 rfl ?_
      exact z_zret (pc := 31) x hret dX6_isWord_31
    · refine z_aload_n (pc := 10) x 0 dX6_isWord_10 rfl rfl ?_
      refine z_aload_n (pc := 11) x 1 dX6_isWord_11 rfl rfl ?_
      refine z_iload_n (pc := 12) x 2 dX6_isWord_12 rfl rfl ?_
      refine z_call (pc := 13) (z_canV (pc := 13) (As := [zI a2]) (st := [zP a0]) x (ci := 15) rfl (fun b => m_J6_charAt hl (some b) a2) q3221 q2247 (x.2.2.2.2.1 _ q2248) q119 q2249 n_J6_charAt ⟨by decide, by decide⟩ (Nat.le_of_ble_eq_true rfl) dX6_isWord_13) (zv_I fun v13 => ?_) (fun q => zx_thr x (fun z hz => (htab z hz).elim) q)
      refine z_call (pc := 16) (z_canV (pc := 16) (As := [zI v13]) (st := []) x (ci := 34) rfl (fun b => m_X6_isSign hl (some b) v13) q3222 q3224 (z_selP x (ci := 34) rfl (by decide) (zNi_inst x q2780) q3223 q3224) q121 q3225 n_X6_isSign ⟨by decide, by decide⟩ (Nat.le_of_ble_eq_true rfl) dX6_isWord_16) (zv_I fun v16 => ?_) (fun q => zx_thr x (fun z hz => (htab z hz).elim) q)
      refine z_if_ne (pc := 19) (tgt := 24) x dX6_isWord_19 rfl (fun _ => ?_) (fun _ => ?_)
      · refine z_iconst (pc := 22) x (v := (0 : Int32)) dX6_isWord_22 rfl ?_
        exact z_zret (pc := 23) x hret dX6_isWord_23
      · refine z_iinc (pc := 24) (lv' := [(2, zI (a2 + (1 : Int32))), (0, zP a0), (1, zP a1)]) x (v2 := (a2 + (1 : Int32))) 2 dX6_isWord_24 rfl rfl (Nat.le_of_ble_eq_true rfl) rfl ?_
        refine z_goto (pc := 27) (tgt := 2) x dX6_isWord_27 rfl ?_
        exact z_sub [1, 2, 0] rfl (h2 a0 a1 (a2 + (1 : Int32)))
def s_X6_isWord (E : zE) (a0 : Option Nat) (a1 : Option Nat) : zM := s_X6_isWord_2 E zN a0 a1 (0 : Int32)
theorem m_X6_isWord {l : Launch} {E : zE} {D : va_G} {tA : Nat → ClassId} (hl : l.stackTraces = false) (a0 : Option Nat) (a1 : Option Nat) : zMet l E D tA yX6_isWord (ws_ yX6_isWord cX6_isWord 3 (Option.some Jvm.ClassFile.FieldType.boolean)) 14 (s_X6_isWord E a0 a1) [zP a0, zP a1] := by
  refine z_met hl (by decide +kernel) (by rw [zSl_len]; exact (Nat.le_of_ble_eq_true rfl)) fun p e R s m args below meth c k0 x hret hnm htab => ?_
  refine z_lv [(0, zP a0), (1, zP a1)] rfl ?_
  unfold s_X6_isWord
  refine z_iconst (pc := 0) x (v := (0 : Int32)) dX6_isWord_0 rfl ?_
  refine z_istore_n (pc := 1) (lv' := [(2, zI (0 : Int32)), (0, zP a0), (1, zP a1)]) x dX6_isWord_1 rfl (Nat.le_of_ble_eq_true rfl) rfl ?_
  exact z_sub [1, 2, 0] rfl (w_X6_isWord_2 x hl hret hnm htab zN a0 a1 (0 : Int32))
/-! X6_isDigit -/
def s_X6_isDigit_47 (E : zE) (a2 : Int32) (b0 : Option Nat) (b1 : Int32) (b2 : Int32) : zM := zSet E b0 34 24 (zVal (zI (b1 + b2))) (zRetN .boolean a2)
theorem w_X6_isDigit_47 (x : zCx p l R s m args meth c E D tA cX6_isDigit 3 yX6_isDigit.cls 10) (hl : l.stackTraces = false) (hret : meth.sig.returnType = (Option.some Jvm.ClassFile.FieldType.boolean)) (hnm : meth.name = yX6_isDigit.name) (htab : ∀ z ∈ c.exceptionTable.toList, False) (a2 : Int32) (b0 : Option Nat) (b1 : Int32) (b2 : Int32) : zW p l e R s m args below meth c E D tA 3 k0 (s_X6_isDigit_47 E a2 b0 b1 b2) [(2, zI a2)] 47 [zI b2, zI b1, zP b0] := by
  unfold s_X6_isDigit_47
  refine z_iadd (pc := 47) x dX6_isDigit_47 ?_
  refine z_set (pc := 48) (v := zI (b1 + b2)) x in_X6 tyX6 tyX6_ok nmX6 (ci := 34) rfl (k := 24) (by decide) q2809 (fun _ h => h) rfl rfl rfl dX6_isDigit_48 ?_
  refine z_iload_n (pc := 51) x 0 dX6_isDigit_51 rfl rfl ?_
  exact z_zret (pc := 52) x hret dX6_isDigit_52
def s_X6_isDigit_32 (E : zE) (a0 : Option Nat) (a2 : Int32) (b0 : Option Nat) (b1 : Int32) (b2 : Int32) : zM := zSaI E 0 b0 b1 b2 (zGetI a0 34 24 (fun v35 => if a2 = 0 then (s_X6_isDigit_47 E a2 a0 v35 (0 : Int32)) else (s_X6_isDigit_47 E a2 a0 v35 (1 : Int32))))
theorem w_X6_isDigit_32 (x : zCx p l R s m args meth c E D tA cX6_isDigit 3 yX6_isDigit.cls 10) (hl : l.stackTraces = false) (hret : meth.sig.returnType = (Option.some Jvm.ClassFile.FieldType.boolean)) (hnm : meth.name = yX6_isDigit.name) (htab : ∀ z ∈ c.exceptionTable.toList, False) (a0 : Option Nat) (a2 : Int32) (b0 : Option Nat) (b1 : Int32) (b2 : Int32) : zW p l e R s m args below meth c E D tA 3 k0 (s_X6_isDigit_32 E a0 a2 b0 b1 b2) [(0, zP a0), (2, zI a2)] 32 [zI b2, zI b1, zP b0] := by
  unfold s_X6_isDigit_32
  refine z_iast (pc := 32) x (t := 0) rfl dX6_isDigit_32 ?_
  refine z_aload_n (pc := 33) x 0 dX6_isDigit_33 rfl rfl ?_
  refine z_dup (pc := 34) x dX6_isDigit_34 rfl ?_
  refine z_get (pc := 35) (fun _ _ h => zAsI_eq h) x in_X6 (ci := 34) rfl (k := 24) (by decide) q2809 (fun _ h => h) dX6_isDigit_35 fun v35 => ?_
  refine z_iload_n (pc := 38) x 1 dX6_isDigit_38 rfl rfl ?_
  refine z_if_eq (pc := 39) (tgt := 46) x dX6_isDigit_39 rfl (fun _ => ?_) (fun _ => ?_)
  · refine z_iconst (pc := 46) x (v := (0 : Int32)) dX6_isDigit_46 rfl ?_
    exact z_sub [1] rfl (w_X6_isDigit_47 x hl hret hnm htab a2 a0 v35 (0 : Int32))
  · refine z_iconst (pc := 42) x (v := (1 : Int32)) dX6_isDigit_42 rfl ?_
    refine z_goto (pc := 43) (tgt := 47) x dX6_isDigit_43 rfl ?_
    exact z_sub [1] rfl (w_X6_isDigit_47 x hl hret hnm htab a2 a0 v35 (1 : Int32))
def s_X6_isDigit (E : zE) (a0 : Option Nat) (a1 : Int32) : zM := zC (zRv a0 [(34, fun b => s_X6_now E (some b))]) zThr (zKI (fun v1 => zC (s_X6_isIn E v1 (48 : Int32) (57 : Int32)) zThr (zKI (fun v8 => zGetR a0 34 22 (fun v13 => if v8 = 0 then (s_X6_isDigit_32 E a0 v8 v13 a1 (0 : Int32)) else (zC (zRv a0 [(34, fun b => s_X6_now E (some b))]) zThr (zKI (fun v22 => s_X6_isDigit_32 E a0 v8 v13 a1 (v22 - (48 : Int32))))))))))
theorem m_X6_isDigit {l : Launch} {E : zE} {D : va_G} {tA : Nat → ClassId} (hl : l.stackTraces = false) (a0 : Option Nat) (a1 : Int32) : zMet l E D tA yX6_isDigit (ws_ yX6_isDigit cX6_isDigit 3 (Option.some Jvm.ClassFile.FieldType.boolean)) 10 (s_X6_isDigit E a0 a1) [zP a0, zI a1] := by
  refine z_met hl (by decide +kernel) (by rw [zSl_len]; exact (Nat.le_of_ble_eq_true rfl)) fun p e R s m args below meth c k0 x hret hnm htab => ?_
  refine z_lv [(0, zP a0), (1, zI a1)] rfl ?_
  unfold s_X6_isDigit
  refine z_aload_n (pc := 0) x 0 dX6_isDigit_0 rfl rfl ?_
  refine z_call (pc := 1) (z_canV (pc := 1) (As := []) (st := []) x (ci := 34) rfl (fun b => m_X6_now hl (some b)) q3207 q3209 (z_selP x (ci := 34) rfl (by decide) (zNi_inst x q2780) q3208 q3209) q121 q3210 n_X6_now ⟨by decide, by decide⟩ (Nat.le_of_ble_eq_true rfl) dX6_isDigit_1) (zv_I fun v1 => ?_) (fun q => zx_thr x (fun z hz => (htab z hz).elim) q)
  refine z_bipush (pc := 4) x (v := (48 : Int32)) dX6_isDigit_4 rfl ?_
  refine z_bipush (pc := 6) x (v := (57 : Int32)) dX6_isDigit_6 rfl ?_
  refine z_call (pc := 8) (z_canS (pc := 8) (As := [zI v1, zI (48 : Int32), zI (57 : Int32)]) (st := []) x (m_X6_isIn hl v1 (48 : Int32) (57 : Int32)) q2895 q2896 q121 q2897 n_X6_isIn ⟨by decide, by decide⟩ (Nat.le_of_ble_eq_true rfl) dX6_isDigit_8) (zv_I fun v8 => ?_) (fun q => zx_thr x (fun z hz => (htab z hz).elim) q)
  refine z_istore_n (pc := 11) (lv' := [(2, zI v8), (0, zP a0), (1, zI a1)]) x dX6_isDigit_11 rfl (Nat.le_of_ble_eq_true rfl) rfl ?_
  refine z_aload_n (pc := 12) x 1 dX6_isDigit_12 rfl rfl ?_
  refine z_get (pc := 13) (fun _ _ h => zAsR_eq h) x in_X6 (ci := 34) rfl (k := 22) (by decide) q2807 (fun _ h => h) dX6_isDigit_13 fun v13 => ?_
  refine z_iload_n (pc := 16) x 2 dX6_isDigit_16 rfl rfl ?_
  refine z_iload_n (pc := 17) x 0 dX6_isDigit_17 rfl rfl ?_
  refine z_if_eq (pc := 18) (tgt := 31) x dX6_isDigit_18 rfl (fun _ => ?_) (fun _ => ?_)
  · refine z_iconst (pc := 31) x (v := (0 : Int32)) dX6_isDigit_31 rfl ?_
    exact z_sub [1, 0] rfl (w_X6_isDigit_32 x hl hret hnm htab a0 v8 v13 a1 (0 : Int32))
  · refine z_aload_n (pc := 21) x 1 dX6_isDigit_21 rfl rfl ?_
    refine z_call (pc := 22) (z_canV (pc := 22) (As := []) (st := [zI a1, zP v13]) x (ci := 34) rfl (fun b => m_X6_now hl (some b)) q3207 q3209 (z_selP x (ci := 34) rfl (by decide) (zNi_inst x q2780) q3208 q3209) q121 q3210 n_X6_now ⟨by decide, by decide⟩ (Nat.le_of_ble_eq_true rfl) dX6_isDigit_22) (zv_I fun v22 => ?_) (fun q => zx_thr x (fun z hz => (htab z hz).elim) q)
    refine z_bipush (pc := 25) x (v := (48 : Int32)) dX6_isDigit_25 rfl ?_
    refine z_isub (pc := 27) x dX6_isDigit_27 ?_
    refine z_goto (pc := 28) (tgt := 32) x dX6_isDigit_28 rfl ?_
    exact z_sub [1, 0] rfl (w_X6_isDigit_32 x hl hret hnm htab a0 v8 v13 a1 (v22 - (48 : Int32)))
/-! X6_isTerm -/
def s_X6_isTerm_88 (E : zE) (a2 : Int32) (b0 : Option Nat) (b1 : Int32) (b2 : Int32) : zM := zSet E b0 34 24 (zVal (zI (b1 + b2))) (zRetN .boolean a2)
theorem w_X6_isTerm_88 (x : zCx p l R s m args meth c E D tA cX6_isTerm 3 yX6_isTerm.cls 10) (hl : l.stackTraces = false) (hret : meth.sig.returnType = (Option.some Jvm.ClassFile.FieldType.boolean)) (hnm : meth.name = yX6_isTerm.name) (htab : ∀ z ∈ c.exceptionTable.toList, False) (a2 : Int32) (b0 : Option Nat) (b1 : Int32) (b2 : Int32) : zW p l e R s m args below meth c E D tA 3 k0 (s_X6_isTerm_88 E a2 b0 b1 b2) [(2, zI a2)] 88 [zI b2, zI b1, zP b0] := by
  unfold s_X6_isTerm_88
  refine z_iadd (pc := 88) x dX6_isTerm_88 ?_
  refine z_set (pc := 89) (v := zI (b1 + b2)) x in_X6 tyX6 tyX6_ok nmX6 (ci := 34) rfl (k := 24) (by decide) q2809 (fun _ h => h) rfl rfl rfl dX6_isTerm_89 ?_
  refine z_iload_n (pc := 92) x 0 dX6_isTerm_92 rfl rfl ?_
  exact z_zret (pc := 93) x hret dX6_isTerm_93
def s_X6_isTerm_73 (E : zE) (a0 : Option Nat) (a2 : Int32) (b0 : Option Nat) (b1 : Int32) (b2 : Int32) : zM := zSaI E 0 b0 b1 b2 (zGetI a0 34 24 (fun v76 => if a2 = 0 then (s_X6_isTerm_88 E a2 a0 v76 (0 : Int32)) else (s_X6_isTerm_88 E a2 a0 v76 (1 : Int32))))
theorem w_X6_isTerm_73 (x : zCx p l R s m args meth c E D tA cX6_isTerm 3 yX6_isTerm.cls 10) (hl : l.stackTraces = false) (hret : meth.sig.returnType = (Option.some Jvm.ClassFile.FieldType.boolean)) (hnm : meth.name = yX6_isTerm.name) (htab : ∀ z ∈ c.exceptionTable.toList, False) (a0 : Option Nat) (a2 : Int32) (b0 : Option Nat) (b1 : Int32) (b2 : Int32) : zW p l e R s m args below meth c E D tA 3 k0 (s_X6_isTerm_73 E a0 a2 b0 b1 b2) [(0, zP a0), (2, zI a2)] 73 [zI b2, zI b1, zP b0] := by
  unfold s_X6_isTerm_73
  refine z_iast (pc := 73) x (t := 0) rfl dX6_isTerm_73 ?_
  refine z_aload_n (pc := 74) x 0 dX6_isTerm_74 rfl rfl ?_
  refine z_dup (pc := 75) x dX6_isTerm_75 rfl ?_
  refine z_get (pc := 76) (fun _ _ h => zAsI_eq h) x in_X6 (ci := 34) rfl (k := 24) (by decide) q2809 (fun _ h => h) dX6_isTerm_76 fun v76 => ?_
  refine z_iload_n (pc := 79) x 1 dX6_isTerm_79 rfl rfl ?_
  refine z_if_eq (pc := 80) (tgt := 87) x dX6_isTerm_80 rfl (fun _ => ?_) (fun _ => ?_)
  · refine z_iconst (pc := 87) x (v := (0 : Int32)) dX6_isTerm_87 rfl ?_
    exact z_sub [1] rfl (w_X6_isTerm_88 x hl hret hnm htab a2 a0 v76 (0 : Int32))
  · refine z_iconst (pc := 83) x (v := (1 : Int32)) dX6_isTerm_83 rfl ?_
    refine z_goto (pc := 84) (tgt := 88) x dX6_isTerm_84 rfl ?_
    exact z_sub [1] rfl (w_X6_isTerm_88 x hl hret hnm htab a2 a0 v76 (1 : Int32))
def s_X6_isTerm_33 (E : zE) (a0 : Option Nat) (a1 : Int32) (b0 : Int32) : zM := zGetR a0 34 22 (fun v35 => zC (zRv a0 [(34, fun b => s_X6_now E (some b))]) zThr (zKI (fun v40 => zC (s_X6_isIn E v40 (88 : Int32) (90 : Int32)) zThr (zKI (fun v47 => if v47 = 0 then (zC (zRv a0 [(34, fun b => s_X6_now E (some b))]) zThr (zKI (fun v67 => s_X6_isTerm_73 E a0 b0 v35 a1 (v67 - (48 : Int32))))) else (zC (zRv a0 [(34, fun b => s_X6_now E (some b))]) zThr (zKI (fun v54 => s_X6_isTerm_73 E a0 b0 v35 a1 ((v54 - (88 : Int32)) + (10 : Int32))))))))))
theorem w_X6_isTerm_33 (x : zCx p l R s m args meth c E D tA cX6_isTerm 3 yX6_isTerm.cls 10) (hl : l.stackTraces = false) (hret : meth.sig.returnType = (Option.some Jvm.ClassFile.FieldType.boolean)) (hnm : meth.name = yX6_isTerm.name) (htab : ∀ z ∈ c.exceptionTable.toList, False) (a0 : Option Nat) (a1 : Int32) (b0 : Int32) : zW p l e R s m args below meth c E D tA 3 k0 (s_X6_isTerm_33 E a0 a1 b0) [(0, zP a0), (1, zI a1)] 33 [zI b0] := by
  unfold s_X6_isTerm_33
  refine z_istore_n (pc := 33) (lv' := [(2, zI b0), (0, zP a0), (1, zI a1)]) x dX6_isTerm_33 rfl (Nat.le_of_ble_eq_true rfl) rfl ?_
  refine z_aload_n (pc := 34) x 1 dX6_isTerm_34 rfl rfl ?_
  refine z_get (pc := 35) (fun _ _ h => zAsR_eq h) x in_X6 (ci := 34) rfl (k := 22) (by decide) q2807 (fun _ h => h) dX6_isTerm_35 fun v35 => ?_
  refine z_iload_n (pc := 38) x 2 dX6_isTerm_38 rfl rfl ?_
  refine z_aload_n (pc := 39) x 1 dX6_isTerm_39 rfl rfl ?_
  refine z_call (pc := 40) (z_canV (pc := 40) (As := []) (st := [zI a1, zP v35]) x (ci := 34) rfl (fun b => m_X6_now hl (some b)) q3207 q3209 (z_selP x (ci := 34) rfl (by decide) (zNi_inst x q2780) q3208 q3209) q121 q3210 n_X6_now ⟨by decide, by decide⟩ (Nat.le_of_ble_eq_true rfl) dX6_isTerm_40) (zv_I fun v40 => ?_) (fun q => zx_thr x (fun z hz => (htab z hz).elim) q)
  refine z_bipush (pc := 43) x (v := (88 : Int32)) dX6_isTerm_43 rfl ?_
  refine z_bipush (pc := 45) x (v := (90 : Int32)) dX6_isTerm_45 rfl ?_
  refine z_call (pc := 47) (z_canS (pc := 47) (As := [zI v40, zI (88 : Int32), zI (90 : Int32)]) (st := [zI a1, zP v35]) x (m_X6_isIn hl v40 (88 : Int32) (90 : Int32)) q2895 q2896 q121 q2897 n_X6_isIn ⟨by decide, by decide⟩ (Nat.le_of_ble_eq_true rfl) dX6_isTerm_47) (zv_I fun v47 => ?_) (fun q => zx_thr x (fun z hz => (htab z hz).elim) q)
  refine z_if_eq (pc := 50) (tgt := 66) x dX6_isTerm_50 rfl (fun _ => ?_) (fun _ => ?_)
  · refine z_aload_n (pc := 66) x 1 dX6_isTerm_66 rfl rfl ?_
    refine z_call (pc := 67) (z_canV (pc := 67) (As := []) (st := [zI a1, zP v35]) x (ci := 34) rfl (fun b => m_X6_now hl (some b)) q3207 q3209 (z_selP x (ci := 34) rfl (by decide) (zNi_inst x q2780) q3208 q3209) q121 q3210 n_X6_now ⟨by decide, by decide⟩ (Nat.le_of_ble_eq_true rfl) dX6_isTerm_67) (zv_I fun v67 => ?_) (fun q => zx_thr x (fun z hz => (htab z hz).elim) q)
    refine z_bipush (pc := 70) x (v := (48 : Int32)) dX6_isTerm_70 rfl ?_
    refine z_isub (pc := 72) x dX6_isTerm_72 ?_
    exact z_sub [1, 0] rfl (w_X6_isTerm_73 x hl hret hnm htab a0 b0 v35 a1 (v67 - (48 : Int32)))
  · refine z_aload_n (pc := 53) x 1 dX6_isTerm_53 rfl rfl ?_
    refine z_call (pc := 54) (z_canV (pc := 54) (As := []) (st := [zI a1, zP v35]) x (ci := 34) rfl (fun b => m_X6_now hl (some b)) q3207 q3209 (z_selP x (ci := 34) rfl (by decide) (zNi_inst x q2780) q3208 q3209) q121 q3210 n_X6_now ⟨by decide, by decide⟩ (Nat.le_of_ble_eq_true rfl) dX6_isTerm_54) (zv_I fun v54 => ?_) (fun q => zx_thr x (fun z hz => (htab z hz).elim) q)
    refine z_bipush (pc := 57) x (v := (88 : Int32)) dX6_isTerm_57 rfl ?_
    refine z_isub (pc := 59) x dX6_isTerm_59 ?_
    refine z_bipush (pc := 60) x (v := (10 : Int32)) dX6_isTerm_60 rfl ?_
    refine z_iadd (pc := 62) x dX6_isTerm_62 ?_
    refine z_goto (pc := 63) (tgt := 73) x dX6_isTerm_63 rfl ?_
    exact z_sub [1, 0] rfl (w_X6_isTerm_73 x hl hret hnm htab a0 b0 v35 a1 ((v54 - (88 : Int32)) + (10 : Int32)))
def s_X6_isTerm_28 (E : zE) (a0 : Option Nat) (a1 : Int32) : zM := s_X6_isTerm_33 E a0 a1 (1 : Int32)
theorem w_X6_isTerm_28 (x : zCx p l R s m args meth c E D tA cX6_isTerm 3 yX6_isTerm.cls 10) (hl : l.stackTraces = false) (hret : meth.sig.returnType = (Option.some Jvm.ClassFile.FieldType.boolean)) (hnm : meth.name = yX6_isTerm.name) (htab : ∀ z ∈ c.exceptionTable.toList, False) (a0 : Option Nat) (a1 : Int32) : zW p l e R s m args below meth c E D tA 3 k0 (s_X6_isTerm_28 E a0 a1) [(0, zP a0), (1, zI a1)] 28 [] := by
  unfold s_X6_isTerm_28
  refine z_iconst (pc := 28) x (v := (1 : Int32)) dX6_isTerm_28 rfl ?_
  refine z_goto (pc := 29) (tgt := 33) x dX6_isTerm_29 rfl ?_
  exact z_sub [0, 1] rfl (w_X6_isTerm_33 x hl hret hnm htab a0 a1 (1 : Int32))
def s_X6_isTerm (E : zE) (a0 : Option Nat) (a1 : Int32) : zM := zC (zRv a0 [(34, fun b => s_X6_now E (some b))]) zThr (zKI (fun v1 => zC (s_X6_isIn E v1 (48 : Int32) (57 : Int32)) zThr (zKI (fun v8 => if v8 = 0 then (zC (zRv a0 [(34, fun b => s_X6_now E (some b))]) zThr (zKI (fun v15 => zC (s_X6_isIn E v15 (88 : Int32) (90 : Int32)) zThr (zKI (fun v22 => if v22 = 0 then (s_X6_isTerm_33 E a0 a1 (0 : Int32)) else (s_X6_isTerm_28 E a0 a1)))))) else (s_X6_isTerm_28 E a0 a1)))))
theorem m_X6_isTerm {l : Launch} {E : zE} {D : va_G} {tA : Nat → ClassId} (hl : l.stackTraces = false) (a0 : Option Nat) (a1 : Int32) : zMet l E D tA yX6_isTerm (ws_ yX6_isTerm cX6_isTerm 3 (Option.some Jvm.ClassFile.FieldType.boolean)) 10 (s_X6_isTerm E a0 a1) [zP a0, zI a1] := by
  refine z_met hl (by decide +kernel) (by rw [zSl_len]; exact (Nat.le_of_ble_eq_true rfl)) fun p e R s m args below meth c k0 x hret hnm htab => ?_
  refine z_lv [(0, zP a0), (1, zI a1)] rfl ?_
  unfold s_X6_isTerm
  refine z_aload_n (pc := 0) x 0 dX6_isTerm_0 rfl rfl ?_
  refine z_call (pc := 1) (z_canV (pc := 1) (As := []) (st := []) x (ci := 34) rfl (fun b => m_X6_now hl (some b)) q3207 q3209 (z_selP x (ci := 34) rfl (by decide) (zNi_inst x q2780) q3208 q3209) q121 q3210 n_X6_now ⟨by decide, by decide⟩ (Nat.le_of_ble_eq_true rfl) dX6_isTerm_1) (zv_I fun v1 => ?_) (fun q => zx_thr x (fun z hz => (htab z hz).elim) q)
  refine z_bipush (pc := 4) x (v := (48 : Int32)) dX6_isTerm_4 rfl ?_
  refine z_bipush (pc := 6) x (v := (57 : Int32)) dX6_isTerm_6 rfl ?_
  refine z_call (pc := 8) (z_canS (pc := 8) (As := [zI v1, zI (48 : Int32), zI (57 : Int32)]) (st := []) x (m_X6_isIn hl v1 (48 : Int32) (57 : Int32)) q2895 q2896 q121 q2897 n_X6_isIn ⟨by decide, by decide⟩ (Nat.le_of_ble_eq_true rfl) dX6_isTerm_8) (zv_I fun v8 => ?_) (fun q => zx_thr x (fun z hz => (htab z hz).elim) q)
  refine z_if_ne (pc := 11) (tgt := 28) x dX6_isTerm_11 rfl (fun _ => ?_) (fun _ => ?_)
  · refine z_aload_n (pc := 14) x 0 dX6_isTerm_14 rfl rfl ?_
    refine z_call (pc := 15) (z_canV (pc := 15) (As := []) (st := []) x (ci := 34) rfl (fun b => m_X6_now hl (some b)) q3207 q3209 (z_selP x (ci := 34) rfl (by decide) (zNi_inst x q2780) q3208 q3209) q121 q3210 n_X6_now ⟨by decide, by decide⟩ (Nat.le_of_ble_eq_true rfl) dX6_isTerm_15) (zv_I fun v15 => ?_) (fun q => zx_thr x (fun z hz => (htab z hz).elim) q)
    refine z_bipush (pc := 18) x (v := (88 : Int32)) dX6_isTerm_18 rfl ?_
    refine z_bipush (pc := 20) x (v := (90 : Int32)) dX6_isTerm_20 rfl ?_
    refine z_call (pc := 22) (z_canS (pc := 22) (As := [zI v15, zI (88 : Int32), zI (90 : Int32)]) (st := []) x (m_X6_isIn hl v15 (88 : Int32) (90 : Int32)) q2895 q2896 q121 q2897 n_X6_isIn ⟨by decide, by decide⟩ (Nat.le_of_ble_eq_true rfl) dX6_isTerm_22) (zv_I fun v22 => ?_) (fun q => zx_thr x (fun z hz => (htab z hz).elim) q)
    refine z_if_eq (pc := 25) (tgt := 32) x dX6_isTerm_25 rfl (fun _ => ?_) (fun _ => ?_)
    · refine z_iconst (pc := 32) x (v := (0 : Int32)) dX6_isTerm_32 rfl ?_
      exact z_sub [0, 1] rfl (w_X6_isTerm_33 x hl hret hnm htab a0 a1 (0 : Int32))
    · exact z_sub [0, 1] rfl (w_X6_isTerm_28 x hl hret hnm htab a0 a1)
  · exact z_sub [0, 1] rfl (w_X6_isTerm_28 x hl hret hnm htab a0 a1)
/-! X6_isAtom -/
def s_X6_isAtom_129 (E : zE) (a0 : Option Nat) : zM := zC (zRv a0 [(34, fun b => s_X6_isSign E (some b) (41 : Int32))]) zThr (zKI (fun v132 => zRetN .boolean v132))
theorem w_X6_isAtom_129 (x : zCx p l R s m args meth c E D tA cX6_isAtom 4 yX6_isAtom.cls 11) (hl : l.stackTraces = false) (hret : meth.sig.returnType = (Option.some Jvm.ClassFile.FieldType.boolean)) (hnm : meth.name = yX6_isAtom.name) (htab : ∀ z ∈ c.exceptionTable.toList, False) (a0 : Option Nat) : zW p l e R s m args below meth c E D tA 4 k0 (s_X6_isAtom_129 E a0) [(0, zP a0)] 129 [] := by
  unfold s_X6_isAtom_129
  refine z_aload_n (pc := 129) x 0 dX6_isAtom_129 rfl rfl ?_
  refine z_bipush (pc := 130) x (v := (41 : Int32)) dX6_isAtom_130 rfl ?_
  refine z_call (pc := 132) (z_canV (pc := 132) (As := [zI (41 : Int32)]) (st := []) x (ci := 34) rfl (fun b => m_X6_isSign hl (some b) (41 : Int32)) q3222 q3224 (z_selP x (ci := 34) rfl (by decide) (zNi_inst x q2780) q3223 q3224) q121 q3225 n_X6_isSign ⟨by decide, by decide⟩ (Nat.le_of_ble_eq_true rfl) dX6_isAtom_132) (zv_I fun v132 => ?_) (fun q => zx_thr x (fun z hz => (htab z hz).elim) q)
  exact z_zret (pc := 135) x hret dX6_isAtom_135
def s_X6_isAtom_84 (E : zE) (a0 : Option Nat) (a1 : Int32) (a2 : Int32) (a3 : Int32) : zM := zC (s_X6_isPair E a3) zThr (zKI (fun v85 => if v85 = 0 then (s_X6_isAtom_129 E a0) else (zC (zRv a0 [(34, fun b => s_X6_isSign E (some b) (44 : Int32))]) zThr (zKI (fun v94 => if v94 = 0 then (zRetN .boolean (0 : Int32)) else (if a2 = 0 then (zC (zRv a0 [(34, fun b => s_X6_isTerm E (some b) (a1 + (2 : Int32)))]) zThr (zKI (fun v121 => if v121 = 0 then (zRetN .boolean (0 : Int32)) else (s_X6_isAtom_129 E a0)))) else (zC (zRv a0 [(34, fun b => s_X6_isDigit E (some b) (a1 + (2 : Int32)))]) zThr (zKI (fun v108 => if v108 = 0 then (zRetN .boolean (0 : Int32)) else (s_X6_isAtom_129 E a0))))))))))
theorem w_X6_isAtom_84 (x : zCx p l R s m args meth c E D tA cX6_isAtom 4 yX6_isAtom.cls 11) (hl : l.stackTraces = false) (hret : meth.sig.returnType = (Option.some Jvm.ClassFile.FieldType.boolean)) (hnm : meth.name = yX6_isAtom.name) (htab : ∀ z ∈ c.exceptionTable.toList, False) (a0 : Option Nat) (a1 : Int32) (a2 : Int32) (a3 : Int32) : zW p l e R s m args below meth c E D tA 4 k0 (s_X6_isAtom_84 E a0 a1 a2 a3) [(0, zP a0), (1, zI a1), (2, zI a2), (3, zI a3)] 84 [] := by
  unfold s_X6_isAtom_84
  refine z_iload_n (pc := 84) x 3 dX6_isAtom_84 rfl rfl ?_
  refine z_call (pc := 85) (z_canS (pc := 85) (As := [zI a3]) (st := []) x (m_X6_isPair hl a3) q2908 q2909 q121 q2910 n_X6_isPair ⟨by decide, by decide⟩ (Nat.le_of_ble_eq_true rfl) dX6_isAtom_85) (zv_I fun v85 => ?_) (fun q => zx_thr x (fun z hz => (htab z hz).elim) q)
  refine z_if_eq (pc := 88) (tgt := 129) x dX6_isAtom_88 rfl (fun _ => ?_) (fun _ => ?_)
  · exact z_sub [0] rfl (w_X6_isAtom_129 x hl hret hnm htab a0)
  · refine z_aload_n (pc := 91) x 0 dX6_isAtom_91 rfl rfl ?_
    refine z_bipush (pc := 92) x (v := (44 : Int32)) dX6_isAtom_92 rfl ?_
    refine z_call (pc := 94) (z_canV (pc := 94) (As := [zI (44 : Int32)]) (st := []) x (ci := 34) rfl (fun b => m_X6_isSign hl (some b) (44 : Int32)) q3222 q3224 (z_selP x (ci := 34) rfl (by decide) (zNi_inst x q2780) q3223 q3224) q121 q3225 n_X6_isSign ⟨by decide, by decide⟩ (Nat.le_of_ble_eq_true rfl) dX6_isAtom_94) (zv_I fun v94 => ?_) (fun q => zx_thr x (fun z hz => (htab z hz).elim) q)
    refine z_if_eq (pc := 97) (tgt := 127) x dX6_isAtom_97 rfl (fun _ => ?_) (fun _ => ?_)
    · refine z_iconst (pc := 127) x (v := (0 : Int32)) dX6_isAtom_127 rfl ?_
      exact z_zret (pc := 128) x hret dX6_isAtom_128
    · refine z_iload_n (pc := 100) x 2 dX6_isAtom_100 rfl rfl ?_
      refine z_if_eq (pc := 101) (tgt := 117) x dX6_isAtom_101 rfl (fun _ => ?_) (fun _ => ?_)
      · refine z_aload_n (pc := 117) x 0 dX6_isAtom_117 rfl rfl ?_
        refine z_iload_n (pc := 118) x 1 dX6_isAtom_118 rfl rfl ?_
        refine z_iconst (pc := 119) x (v := (2 : Int32)) dX6_isAtom_119 rfl ?_
        refine z_iadd (pc := 120) x dX6_isAtom_120 ?_
        refine z_call (pc := 121) (z_canV (pc := 121) (As := [zI (a1 + (2 : Int32))]) (st := []) x (ci := 34) rfl (fun b => m_X6_isTerm hl (some b) (a1 + (2 : Int32))) q3234 q3236 (z_selP x (ci := 34) rfl (by decide) (zNi_inst x q2780) q3235 q3236) q121 q3237 n_X6_isTerm ⟨by decide, by decide⟩ (Nat.le_of_ble_eq_true rfl) dX6_isAtom_121) (zv_I fun v121 => ?_) (fun q => zx_thr x (fun z hz => (htab z hz).elim) q)
        refine z_if_ne (pc := 124) (tgt := 129) x dX6_isAtom_124 rfl (fun _ => ?_) (fun _ => ?_)
        · refine z_iconst (pc := 127) x (v := (0 : Int32)) dX6_isAtom_127 rfl ?_
          exact z_zret (pc := 128) x hret dX6_isAtom_128
        · exact z_sub [0] rfl (w_X6_isAtom_129 x hl hret hnm htab a0)
      · refine z_aload_n (pc := 104) x 0 dX6_isAtom_104 rfl rfl ?_
        refine z_iload_n (pc := 105) x 1 dX6_isAtom_105 rfl rfl ?_
        refine z_iconst (pc := 106) x (v := (2 : Int32)) dX6_isAtom_106 rfl ?_
        refine z_iadd (pc := 107) x dX6_isAtom_107 ?_
        refine z_call (pc := 108) (z_canV (pc := 108) (As := [zI (a1 + (2 : Int32))]) (st := []) x (ci := 34) rfl (fun b => m_X6_isDigit hl (some b) (a1 + (2 : Int32))) q3230 q3232 (z_selP x (ci := 34) rfl (by decide) (zNi_inst x q2780) q3231 q3232) q121 q3233 n_X6_isDigit ⟨by decide, by decide⟩ (Nat.le_of_ble_eq_true rfl) dX6_isAtom_108) (zv_I fun v108 => ?_) (fun q => zx_thr x (fun z hz => (htab z hz).elim) q)
        refine z_if_eq (pc := 111) (tgt := 127) x dX6_isAtom_111 rfl (fun _ => ?_) (fun _ => ?_)
        · refine z_iconst (pc := 127) x (v := (0 : Int32)) dX6_isAtom_127 rfl ?_
          exact z_zret (pc := 128) x hret dX6_isAtom_128
        · refine z_goto (pc := 114) (tgt := 129) x dX6_isAtom_114 rfl ?_
          exact z_sub [0] rfl (w_X6_isAtom_129 x hl hret hnm htab a0)
def s_X6_isAtom (E : zE) (a0 : Option Nat) (a1 : Int32) (a2 : Int32) : zM := zC (zRv a0 [(34, fun b => s_X6_now E (some b))]) zThr (zKI (fun v1 => zC (s_X6_isPredicate E v1) zThr (zKI (fun v4 => if v4 = 0 then (zRetN .boolean (0 : Int32)) else (zC (zRv a0 [(34, fun b => s_X6_now E (some b))]) zThr (zKI (fun v13 => zGetI a0 34 24 (fun v22 => zSet E a0 34 24 (zVal (zI (v22 + (1 : Int32)))) (zGetR a0 34 22 (fun v31 => zSaI E 0 v31 a1 (v13 - (97 : Int32)) (zGetR a0 34 22 (fun v38 => zSaI E 0 v38 (a1 + (2 : Int32)) (-1 : Int32) (zC (zRv a0 [(34, fun b => s_X6_isSign E (some b) (40 : Int32))]) zThr (zKI (fun v49 => if v49 = 0 then (zRetN .boolean (0 : Int32)) else (if a2 = 0 then (zC (zRv a0 [(34, fun b => s_X6_isTerm E (some b) (a1 + (1 : Int32)))]) zThr (zKI (fun v76 => if v76 = 0 then (zRetN .boolean (0 : Int32)) else (s_X6_isAtom_84 E a0 a1 a2 (v13 - (97 : Int32)))))) else (zC (zRv a0 [(34, fun b => s_X6_isDigit E (some b) (a1 + (1 : Int32)))]) zThr (zKI (fun v63 => if v63 = 0 then (zRetN .boolean (0 : Int32)) else (s_X6_isAtom_84 E a0 a1 a2 (v13 - (97 : Int32))))))))))))))))))))))
theorem m_X6_isAtom {l : Launch} {E : zE} {D : va_G} {tA : Nat → ClassId} (hl : l.stackTraces = false) (a0 : Option Nat) (a1 : Int32) (a2 : Int32) : zMet l E D tA yX6_isAtom (ws_ yX6_isAtom cX6_isAtom 4 (Option.some Jvm.ClassFile.FieldType.boolean)) 11 (s_X6_isAtom E a0 a1 a2) [zP a0, zI a1, zI a2] := by
  refine z_met hl (by decide +kernel) (by rw [zSl_len]; exact (Nat.le_of_ble_eq_true rfl)) fun p e R s m args below meth c k0 x hret hnm htab => ?_
  refine z_lv [(0, zP a0), (1, zI a1), (2, zI a2)] rfl ?_
  unfold s_X6_isAtom
  refine z_aload_n (pc := 0) x 0 dX6_isAtom_0 rfl rfl ?_
  refine z_call (pc := 1) (z_canV (pc := 1) (As := []) (st := []) x (ci := 34) rfl (fun b => m_X6_now hl (some b)) q3207 q3209 (z_selP x (ci := 34) rfl (by decide) (zNi_inst x q2780) q3208 q3209) q121 q3210 n_X6_now ⟨by decide, by decide⟩ (Nat.le_of_ble_eq_true rfl) dX6_isAtom_1) (zv_I fun v1 => ?_) (fun q => zx_thr x (fun z hz => (htab z hz).elim) q)
  refine z_call (pc := 4) (z_canS (pc := 4) (As := [zI v1]) (st := []) x (m_X6_isPredicate hl v1) q2892 q2893 q121 q2894 n_X6_isPredicate ⟨by decide, by decide⟩ (Nat.le_of_ble_eq_true rfl) dX6_isAtom_4) (zv_I fun v4 => ?_) (fun q => zx_thr x (fun z hz => (htab z hz).elim) q)
  refine z_if_ne (pc := 7) (tgt := 12) x dX6_isAtom_7 rfl (fun _ => ?_) (fun _ => ?_)
  · refine z_iconst (pc := 10) x (v := (0 : Int32)) dX6_isAtom_10 rfl ?_
    exact z_zret (pc := 11) x hret dX6_isAtom_11
  · refine z_aload_n (pc := 12) x 0 dX6_isAtom_12 rfl rfl ?_
    refine z_call (pc := 13) (z_canV (pc := 13) (As := []) (st := []) x (ci := 34) rfl (fun b => m_X6_now hl (some b)) q3207 q3209 (z_selP x (ci := 34) rfl (by decide) (zNi_inst x q2780) q3208 q3209) q121 q3210 n_X6_now ⟨by decide, by decide⟩ (Nat.le_of_ble_eq_true rfl) dX6_isAtom_13) (zv_I fun v13 => ?_) (fun q => zx_thr x (fun z hz => (htab z hz).elim) q)
    refine z_bipush (pc := 16) x (v := (97 : Int32)) dX6_isAtom_16 rfl ?_
    refine z_isub (pc := 18) x dX6_isAtom_18 ?_
    refine z_istore_n (pc := 19) (lv' := [(3, zI (v13 - (97 : Int32))), (0, zP a0), (1, zI a1), (2, zI a2)]) x dX6_isAtom_19 rfl (Nat.le_of_ble_eq_true rfl) rfl ?_
    refine z_aload_n (pc := 20) x 1 dX6_isAtom_20 rfl rfl ?_
    refine z_dup (pc := 21) x dX6_isAtom_21 rfl ?_
    refine z_get (pc := 22) (fun _ _ h => zAsI_eq h) x in_X6 (ci := 34) rfl (k := 24) (by decide) q2809 (fun _ h => h) dX6_isAtom_22 fun v22 => ?_
    refine z_iconst (pc := 25) x (v := (1 : Int32)) dX6_isAtom_25 rfl ?_
    refine z_iadd (pc := 26) x dX6_isAtom_26 ?_
    refine z_set (pc := 27) (v := zI (v22 + (1 : Int32))) x in_X6 tyX6 tyX6_ok nmX6 (ci := 34) rfl (k := 24) (by decide) q2809 (fun _ h => h) rfl rfl rfl dX6_isAtom_27 ?_
    refine z_aload_n (pc := 30) x 1 dX6_isAtom_30 rfl rfl ?_
    refine z_get (pc := 31) (fun _ _ h => zAsR_eq h) x in_X6 (ci := 34) rfl (k := 22) (by decide) q2807 (fun _ h => h) dX6_isAtom_31 fun v31 => ?_
    refine z_iload_n (pc := 34) x 2 dX6_isAtom_34 rfl rfl ?_
    refine z_iload_n (pc := 35) x 0 dX6_isAtom_35 rfl rfl ?_
    refine z_iast (pc := 36) x (t := 0) rfl dX6_isAtom_36 ?_
    refine z_aload_n (pc := 37) x 1 dX6_isAtom_37 rfl rfl ?_
    refine z_get (pc := 38) (fun _ _ h => zAsR_eq h) x in_X6 (ci := 34) rfl (k := 22) (by decide) q2807 (fun _ h => h) dX6_isAtom_38 fun v38 => ?_
    refine z_iload_n (pc := 41) x 2 dX6_isAtom_41 rfl rfl ?_
    refine z_iconst (pc := 42) x (v := (2 : Int32)) dX6_isAtom_42 rfl ?_
    refine z_iadd (pc := 43) x dX6_isAtom_43 ?_
    refine z_iconst (pc := 44) x (v := (-1 : Int32)) dX6_isAtom_44 rfl ?_
    refine z_iast (pc := 45) x (t := 0) rfl dX6_isAtom_45 ?_
    refine z_aload_n (pc := 46) x 1 dX6_isAtom_46 rfl rfl ?_
    refine z_bipush (pc := 47) x (v := (40 : Int32)) dX6_isAtom_47 rfl ?_
    refine z_call (pc := 49) (z_canV (pc := 49) (As := [zI (40 : Int32)]) (st := []) x (ci := 34) rfl (fun b => m_X6_isSign hl (some b) (40 : Int32)) q3222 q3224 (z_selP x (ci := 34) rfl (by decide) (zNi_inst x q2780) q3223 q3224) q121 q3225 n_X6_isSign ⟨by decide, by decide⟩ (Nat.le_of_ble_eq_true rfl) dX6_isAtom_49) (zv_I fun v49 => ?_) (fun q => zx_thr x (fun z hz => (htab z hz).elim) q)
    refine z_if_eq (pc := 52) (tgt := 82) x dX6_isAtom_52 rfl (fun _ => ?_) (fun _ => ?_)
    · refine z_iconst (pc := 82) x (v := (0 : Int32)) dX6_isAtom_82 rfl ?_
      exact z_zret (pc := 83) x hret dX6_isAtom_83
    · refine z_iload_n (pc := 55) x 3 dX6_isAtom_55 rfl rfl ?_
      refine z_if_eq (pc := 56) (tgt := 72) x dX6_isAtom_56 rfl (fun _ => ?_) (fun _ => ?_)
      · refine z_aload_n (pc := 72) x 1 dX6_isAtom_72 rfl rfl ?_
        refine z_iload_n (pc := 73) x 2 dX6_isAtom_73 rfl rfl ?_
        refine z_iconst (pc := 74) x (v := (1 : Int32)) dX6_isAtom_74 rfl ?_
        refine z_iadd (pc := 75) x dX6_isAtom_75 ?_
        refine z_call (pc := 76) (z_canV (pc := 76) (As := [zI (a1 + (1 : Int32))]) (st := []) x (ci := 34) rfl (fun b => m_X6_isTerm hl (some b) (a1 + (1 : Int32))) q3234 q3236 (z_selP x (ci := 34) rfl (by decide) (zNi_inst x q2780) q3235 q3236) q121 q3237 n_X6_isTerm ⟨by decide, by decide⟩ (Nat.le_of_ble_eq_true rfl) dX6_isAtom_76) (zv_I fun v76 => ?_) (fun q => zx_thr x (fun z hz => (htab z hz).elim) q)
        refine z_if_ne (pc := 79) (tgt := 84) x dX6_isAtom_79 rfl (fun _ => ?_) (fun _ => ?_)
        · refine z_iconst (pc := 82) x (v := (0 : Int32)) dX6_isAtom_82 rfl ?_
          exact z_zret (pc := 83) x hret dX6_isAtom_83
        · exact z_sub [1, 2, 3, 0] rfl (w_X6_isAtom_84 x hl hret hnm htab a0 a1 a2 (v13 - (97 : Int32)))
      · refine z_aload_n (pc := 59) x 1 dX6_isAtom_59 rfl rfl ?_
        refine z_iload_n (pc := 60) x 2 dX6_isAtom_60 rfl rfl ?_
        refine z_iconst (pc := 61) x (v := (1 : Int32)) dX6_isAtom_61 rfl ?_
        refine z_iadd (pc := 62) x dX6_isAtom_62 ?_
        refine z_call (pc := 63) (z_canV (pc := 63) (As := [zI (a1 + (1 : Int32))]) (st := []) x (ci := 34) rfl (fun b => m_X6_isDigit hl (some b) (a1 + (1 : Int32))) q3230 q3232 (z_selP x (ci := 34) rfl (by decide) (zNi_inst x q2780) q3231 q3232) q121 q3233 n_X6_isDigit ⟨by decide, by decide⟩ (Nat.le_of_ble_eq_true rfl) dX6_isAtom_63) (zv_I fun v63 => ?_) (fun q => zx_thr x (fun z hz => (htab z hz).elim) q)
        refine z_if_eq (pc := 66) (tgt := 82) x dX6_isAtom_66 rfl (fun _ => ?_) (fun _ => ?_)
        · refine z_iconst (pc := 82) x (v := (0 : Int32)) dX6_isAtom_82 rfl ?_
          exact z_zret (pc := 83) x hret dX6_isAtom_83
        · refine z_goto (pc := 69) (tgt := 84) x dX6_isAtom_69 rfl ?_
          exact z_sub [1, 2, 3, 0] rfl (w_X6_isAtom_84 x hl hret hnm htab a0 a1 a2 (v13 - (97 : Int32)))
end ZGEN7
