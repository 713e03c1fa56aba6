/-! ===== walks (by program) ===== -/
set_option maxRecDepth 100000
set_option linter.unusedVariables false
section ZGEN6
variable {p : Program} {l : Launch} {e : Env} {R : Room} {s : State} {m : MethodId} {args : Array Value} {below : List Frame} {meth : Method} {c : Code} {E : zE} {D : va_G} {tA : Nat → ClassId} {k0 : Nat}
/-! X2_isConsistent -/
def s_X2_isConsistent_101 (E : zE) : Nat → Option Nat → Int32 → Option Nat → Int32 → zM
  | 0, _, _, _, _ => zFail
  | n + 1, a0, a2, a3, a4 => if (8 : Int32) ≤ a4 then (zRetN .boolean a2) else (zC (zRv a0 [(26, fun b => s_X2_isPredicateSo E (some b) a4 a3)]) zThr (zKI (fun v113 => (s_X2_isConsistent_101 E n) a0 (a2 &&& v113) a3 (a4 + (1 : Int32)))))
theorem w_X2_isConsistent_101 (x : zCx p l R s m args meth c E D tA cX2_isConsistent 5 yX2_isConsistent.cls 522) (hl : l.stackTraces = false) (hret : meth.sig.returnType = (Option.some Jvm.ClassFile.FieldType.boolean)) (hnm : meth.name = yX2_isConsistent.name) (htab : ∀ z ∈ c.exceptionTable.toList, False) : ∀ (n : Nat) (a0 : Option Nat) (a2 : Int32) (a3 : Option Nat) (a4 : Int32), zW p l e R s m args below meth c E D tA 5 k0 (s_X2_isConsistent_101 E n a0 a2 a3 a4) [(0, zP a0), (2, zI a2), (3, zP a3), (4, zI a4)] 101 [] := by
  intro n
  induction n with
  | zero => intro a0 a2 a3 a4; exact z_fail
  | succ n h101 =>
    intro a0 a2 a3 a4
    rw [s_X2_isConsistent_101]
    refine z_iload (pc := 101) x 3 dX2_isConsistent_101 rfl ?_
    refine z_bipush (pc := 103) x (v := (8 : Int32)) dX2_isConsistent_103 rfl ?_
    refine z_icmp_ge (pc := 105) (tgt := 124) x dX2_isConsistent_105 rfl (fun _ => ?_) (fun _ => ?_)
    · refine z_iload_n (pc := 124) x 1 dX2_isConsistent_124 rfl rfl ?_
      exact z_zret (pc := 125) x hret dX2_isConsistent_125
    · refine z_iload_n (pc := 108) x 1 dX2_isConsistent_108 rfl rfl ?_
      refine z_aload_n (pc := 109) x 0 dX2_isConsistent_109 rfl rfl ?_
      refine z_iload (pc := 110) x 3 dX2_isConsistent_110 rfl ?_
      refine z_aload_n (pc := 112) x 2 dX2_isConsistent_112 rfl rfl ?_
      refine z_call (pc := 113) (z_canV (pc := 113) (As := [zI a4, zP a3]) (st := [zI a2]) x (ci := 26) rfl (fun b => m_X2_isPredicateSo hl (some b) a4 a3) q1058 q1060 (z_selP x (ci := 26) rfl (by decide) (zNi_inst x q176) q1059 q1060) q109 q1061 n_X2_isPredicateSo ⟨by decide, by decide⟩ (Nat.le_of_ble_eq_true rfl) dX2_isConsistent_113) (zv_I fun v113 => ?_) (fun q => zx_thr x (fun z hz => (htab z hz).elim) q)
      refine z_iand (pc := 116) x dX2_isConsistent_116 ?_
      refine z_istore_n (pc := 117) (lv' := [(2, zI (a2 &&& v113)), (0, zP a0), (3, zP a3), (4, zI a4)]) x dX2_isConsistent_117 rfl (Nat.le_of_ble_eq_true rfl) rfl ?_
      refine z_iinc (pc := 118) (lv' := [(4, zI (a4 + (1 : Int32))), (2, zI (a2 &&& v113)), (0, zP a0), (3, zP a3)]) x (v2 := (a4 + (1 : Int32))) 3 dX2_isConsistent_118 rfl rfl (Nat.le_of_ble_eq_true rfl) rfl ?_
      refine z_goto (pc := 121) (tgt := 101) x dX2_isConsistent_121 rfl ?_
      exact z_sub [2, 1, 3, 0] rfl (h101 a0 (a2 &&& v113) a3 (a4 + (1 : Int32)))
def s_X2_isConsistent_56 (E : zE) (a0 : Option Nat) (b0 : Int32) (b1 : Int32) : zM := zNew 18 2 [.null, .null] (fun v59 => zC (zSp v59 (fun b => s_X12_init E (some b) a0)) zThr (zKV (zC (zRv v59 [(18, fun b => s_X12_inRounds E (some b))]) zThr (zKR (fun v67 => zNew 18 2 [.null, .null] (fun v70 => zC (zSp v70 (fun b => s_X12_init E (some b) a0)) zThr (zKV (zC (zRv v70 [(18, fun b => s_X12_byLevels E (some b))]) zThr (zKR (fun v78 => zC (zRv v67 [(18, fun b => s_X12_isSameAs E (some b) v78)]) zThr (zKI (fun v81 => zNew 35 2 [.null, .null] (fun v86 => zGetR a0 26 1 (fun v91 => zC (zSp v86 (fun b => s_X7_init E (some b) v91)) zThr (zKV (s_X2_isConsistent_101 E zN a0 ((b0 &&& b1) &&& v81) v86 (0 : Int32)))))))))))))))))
theorem w_X2_isConsistent_56 (x : zCx p l R s m args meth c E D tA cX2_isConsistent 5 yX2_isConsistent.cls 522) (hl : l.stackTraces = false) (hret : meth.sig.returnType = (Option.some Jvm.ClassFile.FieldType.boolean)) (hnm : meth.name = yX2_isConsistent.name) (htab : ∀ z ∈ c.exceptionTable.toList, False) (a0 : Option Nat) (b0 : Int32) (b1 : Int32) : zW p l e R s m args below meth c E D tA 5 k0 (s_X2_isConsistent_56 E a0 b0 b1) [(0, zP a0)] 56 [zI b1, zI b0] := by
  unfold s_X2_isConsistent_56
  refine z_iand (pc := 56) x dX2_isConsistent_56 ?_
  refine z_istore_n (pc := 57) (lv' := [(2, zI (b0 &&& b1)), (0, zP a0)]) x dX2_isConsistent_57 rfl (Nat.le_of_ble_eq_true rfl) rfl ?_
  refine z_iload_n (pc := 58) x 0 dX2_isConsistent_58 rfl rfl ?_
  refine z_new (pc := 59) x in_X12 tyX12 tyX12_ok q990 q952 q148 (ci := 18) rfl (by decide) (by decide +kernel) dX2_isConsistent_59 fun v59 => ?_
  refine z_dup (pc := 62) x dX2_isConsistent_62 rfl ?_
  refine z_aload_n (pc := 63) x 1 dX2_isConsistent_63 rfl rfl ?_
  refine z_call (pc := 64) (z_canI (pc := 64) (ret := none) (As := [zP a0]) (st := [zP v59, zI (b0 &&& b1)]) x (fun b => m_X12_init hl (some b) a0) q991 rfl q992 q148 q993 n_X12_init ⟨by decide, by decide⟩ (Nat.le_of_ble_eq_true rfl) dX2_isConsistent_64) (zv_V ?_) (fun q => zx_thr x (fun z hz => (htab z hz).elim) q)
  refine z_call (pc := 67) (z_canV (pc := 67) (As := []) (st := [zI (b0 &&& b1)]) x (ci := 18) rfl (fun b => m_X12_inRounds hl (some b)) q1008 q1009 (x.2.2.2.2.1 _ q1010) q148 q1011 n_X12_inRounds ⟨by decide, by decide⟩ (Nat.le_of_ble_eq_true rfl) dX2_isConsistent_67) (zv_R fun v67 => ?_) (fun q => zx_thr x (fun z hz => (htab z hz).elim) q)
  refine z_new (pc := 70) x in_X12 tyX12 tyX12_ok q990 q952 q148 (ci := 18) rfl (by decide) (by decide +kernel) dX2_isConsistent_70 fun v70 => ?_
  refine z_dup (pc := 73) x dX2_isConsistent_73 rfl ?_
  refine z_aload_n (pc := 74) x 1 dX2_isConsistent_74 rfl rfl ?_
  refine z_call (pc := 75) (z_canI (pc := 75) (ret := none) (As := [zP a0]) (st := [zP v70, zP v67, zI (b0 &&& b1)]) x (fun b => m_X12_init hl (some b) a0) q991 rfl q992 q148 q993 n_X12_init ⟨by decide, by decide⟩ (Nat.le_of_ble_eq_true rfl) dX2_isConsistent_75) (zv_V ?_) (fun q => zx_thr x (fun z hz => (htab z hz).elim) q)
  refine z_call (pc := 78) (z_canV (pc := 78) (As := []) (st := [zP v67, zI (b0 &&& b1)]) x (ci := 18) rfl (fun b => m_X12_byLevels hl (some b)) q1033 q1034 (x.2.2.2.2.1 _ q1035) q148 q1036 n_X12_byLevels ⟨by decide, by decide⟩ (Nat.le_of_ble_eq_true rfl) dX2_isConsistent_78) (zv_R fun v78 => ?_) (fun q => zx_thr x (fun z hz => (htab z hz).elim) q)
  refine z_call (pc := 81) (z_canV (pc := 81) (As := [zP v78]) (st := [zI (b0 &&& b1)]) x (ci := 18) rfl (fun b => m_X12_isSameAs hl (some b) v78) q1054 q1055 (x.2.2.2.2.1 _ q1056) q148 q1057 n_X12_isSameAs ⟨by decide, by decide⟩ (Nat.le_of_ble_eq_true rfl) dX2_isConsistent_81) (zv_I fun v81 => ?_) (fun q => zx_thr x (fun z hz => (htab z hz).elim) q)
  refine z_iand (pc := 84) x dX2_isConsistent_84 ?_
  refine z_istore_n (pc := 85) (lv' := [(2, zI ((b0 &&& b1) &&& v81)), (0, zP a0)]) x dX2_isConsistent_85 rfl (Nat.le_of_ble_eq_true rfl) rfl ?_
  refine z_new (pc := 86) x in_X7 tyX7 tyX7_ok q372 q373 q138 (ci := 35) rfl (by decide) (by decide +kernel) dX2_isConsistent_86 fun v86 => ?_
  refine z_dup (pc := 89) x dX2_isConsistent_89 rfl ?_
  refine z_aload_n (pc := 90) x 1 dX2_isConsistent_90 rfl rfl ?_
  refine z_get (pc := 91) (fun _ _ h => zAsR_eq h) x in_X2 (ci := 26) rfl (k := 1) (by decide) q252 (fun _ h => h) dX2_isConsistent_91 fun v91 => ?_
  refine z_call (pc := 94) (z_canI (pc := 94) (ret := none) (As := [zP v91]) (st := [zP v86]) x (fun b => m_X7_init hl (some b) v91) q374 rfl q375 q138 q376 n_X7_init ⟨by decide, by decide⟩ (Nat.le_of_ble_eq_true rfl) dX2_isConsistent_94) (zv_V ?_) (fun q => zx_thr x (fun z hz => (htab z hz).elim) q)
  refine z_astore_n (pc := 97) (lv' := [(3, zP v86), (2, zI ((b0 &&& b1) &&& v81)), (0, zP a0)]) x dX2_isConsistent_97 rfl (Nat.le_of_ble_eq_true rfl) rfl ?_
  refine z_iconst (pc := 98) x (v := (0 : Int32)) dX2_isConsistent_98 rfl ?_
  refine z_istore (pc := 99) (lv' := [(4, zI (0 : Int32)), (3, zP v86), (2, zI ((b0 &&& b1) &&& v81)), (0, zP a0)]) x dX2_isConsistent_99 (Nat.le_of_ble_eq_true rfl) rfl ?_
  exact z_sub [3, 2, 1, 0] rfl (w_X2_isConsistent_101 x hl hret hnm htab zN a0 ((b0 &&& b1) &&& v81) v86 (0 : Int32))
def s_X2_isConsistent_55 (E : zE) (a0 : Option Nat) (b0 : Int32) : zM := s_X2_isConsistent_56 E a0 b0 (0 : Int32)
theorem w_X2_isConsistent_55 (x : zCx p l R s m args meth c E D tA cX2_isConsistent 5 yX2_isConsistent.cls 522) (hl : l.stackTraces = false) (hret : meth.sig.returnType = (Option.some Jvm.ClassFile.FieldType.boolean)) (hnm : meth.name = yX2_isConsistent.name) (htab : ∀ z ∈ c.exceptionTable.toList, False) (a0 : Option Nat) (b0 : Int32) : zW p l e R s m args below meth c E D tA 5 k0 (s_X2_isConsistent_55 E a0 b0) [(0, zP a0)] 55 [zI b0] := by
  unfold s_X2_isConsistent_55
  refine z_iconst (pc := 55) x (v := (0 : Int32)) dX2_isConsistent_55 rfl ?_
  exact z_sub [0] rfl (w_X2_isConsistent_56 x hl hret hnm htab a0 b0 (0 : Int32))
def s_X2_isConsistent_27 (E : zE) (a0 : Option Nat) (a1 : Option Nat) (b0 : Int32) : zM := zC (zRv a0 [(26, fun b => s_X2_facts E (some b))]) zThr (zKR (fun v30 => zC (zRv v30 [(32, fun b => s_X4_countWithout E (some b) a1)]) zThr (zKI (fun v34 => if v34 = 0 then (zC (zRv a0 [(26, fun b => s_X2_facts E (some b))]) zThr (zKR (fun v42 => zC (zRv a1 [(32, fun b => s_X4_countWithout E (some b) v42)]) zThr (zKI (fun v45 => if v45 = 0 then (s_X2_isConsistent_56 E a0 b0 (1 : Int32)) else (s_X2_isConsistent_55 E a0 b0)))))) else (s_X2_isConsistent_55 E a0 b0)))))
theorem w_X2_isConsistent_27 (x : zCx p l R s m args meth c E D tA cX2_isConsistent 5 yX2_isConsistent.cls 522) (hl : l.stackTraces = false) (hret : meth.sig.returnType = (Option.some Jvm.ClassFile.FieldType.boolean)) (hnm : meth.name = yX2_isConsistent.name) (htab : ∀ z ∈ c.exceptionTable.toList, False) (a0 : Option Nat) (a1 : Option Nat) (b0 : Int32) : zW p l e R s m args below meth c E D tA 5 k0 (s_X2_isConsistent_27 E a0 a1 b0) [(0, zP a0), (1, zP a1)] 27 [zI b0] := by
  unfold s_X2_isConsistent_27
  refine z_istore_n (pc := 27) (lv' := [(2, zI b0), (0, zP a0), (1, zP a1)]) x dX2_isConsistent_27 rfl (Nat.le_of_ble_eq_true rfl) rfl ?_
  refine z_iload_n (pc := 28) x 0 dX2_isConsistent_28 rfl rfl ?_
  refine z_aload_n (pc := 29) x 1 dX2_isConsistent_29 rfl rfl ?_
  refine z_call (pc := 30) (z_canV (pc := 30) (As := []) (st := [zI b0]) x (ci := 26) rfl (fun b => m_X2_facts hl (some b)) q984 q369 (x.2.2.2.2.1 _ q370) q109 q371 n_X2_facts ⟨by decide, by decide⟩ (Nat.le_of_ble_eq_true rfl) dX2_isConsistent_30) (zv_R fun v30 => ?_) (fun q => zx_thr x (fun z hz => (htab z hz).elim) q)
  refine z_aload_n (pc := 33) x 2 dX2_isConsistent_33 rfl rfl ?_
  refine z_call (pc := 34) (z_canV (pc := 34) (As := [zP a1]) (st := [zI b0]) x (ci := 32) rfl (fun b => m_X4_countWithout hl (some b) a1) q985 q986 (x.2.2.2.2.1 _ q987) q114 q988 n_X4_countWithout ⟨by decide, by decide⟩ (Nat.le_of_ble_eq_true rfl) dX2_isConsistent_34) (zv_I fun v34 => ?_) (fun q => zx_thr x (fun z hz => (htab z hz).elim) q)
  refine z_if_ne (pc := 37) (tgt := 55) x dX2_isConsistent_37 rfl (fun _ => ?_) (fun _ => ?_)
  · refine z_aload_n (pc := 40) x 2 dX2_isConsistent_40 rfl rfl ?_
    refine z_aload_n (pc := 41) x 1 dX2_isConsistent_41 rfl rfl ?_
    refine z_call (pc := 42) (z_canV (pc := 42) (As := []) (st := [zP a1, zI b0]) x (ci := 26) rfl (fun b => m_X2_facts hl (some b)) q984 q369 (x.2.2.2.2.1 _ q370) q109 q371 n_X2_facts ⟨by decide, by decide⟩ (Nat.le_of_ble_eq_true rfl) dX2_isConsistent_42) (zv_R fun v42 => ?_) (fun q => zx_thr x (fun z hz => (htab z hz).elim) q)
    refine z_call (pc := 45) (z_canV (pc := 45) (As := [zP v42]) (st := [zI b0]) x (ci := 32) rfl (fun b => m_X4_countWithout hl (some b) v42) q985 q986 (x.2.2.2.2.1 _ q987) q114 q988 n_X4_countWithout ⟨by decide, by decide⟩ (Nat.le_of_ble_eq_true rfl) dX2_isConsistent_45) (zv_I fun v45 => ?_) (fun q => zx_thr x (fun z hz => (htab z hz).elim) q)
    refine z_if_ne (pc := 48) (tgt := 55) x dX2_isConsistent_48 rfl (fun _ => ?_) (fun _ => ?_)
    · refine z_iconst (pc := 51) x (v := (1 : Int32)) dX2_isConsistent_51 rfl ?_
      refine z_goto (pc := 52) (tgt := 56) x dX2_isConsistent_52 rfl ?_
      exact z_sub [1] rfl (w_X2_isConsistent_56 x hl hret hnm htab a0 b0 (1 : Int32))
    · exact z_sub [1] rfl (w_X2_isConsistent_55 x hl hret hnm htab a0 b0)
  · exact z_sub [1] rfl (w_X2_isConsistent_55 x hl hret hnm htab a0 b0)
def s_X2_isConsistent (E : zE) (a0 : Option Nat) : zM := zC (zRv a0 [(26, fun b => s_X2_byTrying E (some b))]) zThr (zKR (fun v1 => zGetR a0 26 0 (fun v6 => zC (zRv v6 [(32, fun b => s_X4_count E (some b))]) zThr (zKI (fun v9 => zGetR a0 26 2 (fun v13 => zC (zRv v13 [(0, fun b => s_X3_left E (some b))]) zThr (zKI (fun v16 => if v9 = v16 then (s_X2_isConsistent_27 E a0 v1 (1 : Int32)) else (s_X2_isConsistent_27 E a0 v1 (0 : Int32))))))))))
theorem m_X2_isConsistent {l : Launch} {E : zE} {D : va_G} {tA : Nat → ClassId} (hl : l.stackTraces = false) (a0 : Option Nat) : zMet l E D tA yX2_isConsistent (ws_ yX2_isConsistent cX2_isConsistent 5 (Option.some Jvm.ClassFile.FieldType.boolean)) 522 (s_X2_isConsistent E a0) [zP a0] := by
  refine z_met hl (by decide +kernel) (by rw [zSl_len]; exact (Nat.le_of_ble_eq_true rfl)) fun p e R s m args below meth c k0 x hret hnm htab => ?_
  refine z_lv [(0, zP a0)] rfl ?_
  unfold s_X2_isConsistent
  refine z_aload_n (pc := 0) x 0 dX2_isConsistent_0 rfl rfl ?_
  refine z_call (pc := 1) (z_canV (pc := 1) (As := []) (st := []) x (ci := 26) rfl (fun b => m_X2_byTrying hl (some b)) q897 q898 (x.2.2.2.2.1 _ q899) q109 q900 n_X2_byTrying ⟨by decide, by decide⟩ (Nat.le_of_ble_eq_true rfl) dX2_isConsistent_1) (zv_R fun v1 => ?_) (fun q => zx_thr x (fun z hz => (htab z hz).elim) q)
  refine z_astore_n (pc := 4) (lv' := [(1, zP v1), (0, zP a0)]) x dX2_isConsistent_4 rfl (Nat.le_of_ble_eq_true rfl) rfl ?_
  refine z_aload_n (pc := 5) x 1 dX2_isConsistent_5 rfl rfl ?_
  refine z_get (pc := 6) (fun _ _ h => zAsR_eq h) x in_X2 (ci := 26) rfl (k := 0) (by decide) q248 (fun _ h => h) dX2_isConsistent_6 fun v6 => ?_
  refine z_call (pc := 9) (z_canV (pc := 9) (As := []) (st := []) x (ci := 32) rfl (fun b => m_X4_count hl (some b)) q982 q351 (x.2.2.2.2.1 _ q352) q114 q353 n_X4_count ⟨by decide, by decide⟩ (Nat.le_of_ble_eq_true rfl) dX2_isConsistent_9) (zv_I fun v9 => ?_) (fun q => zx_thr x (fun z hz => (htab z hz).elim) q)
  refine z_aload_n (pc := 12) x 1 dX2_isConsistent_12 rfl rfl ?_
  refine z_get (pc := 13) (fun _ _ h => zAsR_eq h) x in_X2 (ci := 26) rfl (k := 2) (by decide) q256 (fun _ h => h) dX2_isConsistent_13 fun v13 => ?_
  refine z_call (pc := 16) (z_canVS (pc := 16) (As := []) (st := [zI v9]) x (ci := 0) rfl (fun b => m_X3_left hl (some b)) q983 q886 (x.2.2.2.2.1 _ q887) q113 q888 n_X3_left ⟨by decide, by decide⟩ (Nat.le_of_ble_eq_true rfl) dX2_isConsistent_16) (zv_I fun v16 => ?_) (fun q => zx_thr x (fun z hz => (htab z hz).elim) q)
  refine z_icmp_ne (pc := 19) (tgt := 26) x dX2_isConsistent_19 rfl (fun _ => ?_) (fun _ => ?_)
  · refine z_iconst (pc := 22) x (v := (1 : Int32)) dX2_isConsistent_22 rfl ?_
    refine z_goto (pc := 23) (tgt := 27) x dX2_isConsistent_23 rfl ?_
    exact z_sub [1, 0] rfl (w_X2_isConsistent_27 x hl hret hnm htab a0 v1 (1 : Int32))
  · refine z_iconst (pc := 26) x (v := (0 : Int32)) dX2_isConsistent_26 rfl ?_
    exact z_sub [1, 0] rfl (w_X2_isConsistent_27 x hl hret hnm htab a0 v1 (0 : Int32))
/-! X1_isConsistent -/
def s_X1_isConsistent (E : zE) (a0 : Option Nat) : zM := zGetR a0 16 0 (fun v1 => zC (zRv v1 [(26, fun b => s_X2_isConsistent E (some b))]) zThr (zKI (fun v4 => zRetN .boolean v4)))
theorem m_X1_isConsistent {l : Launch} {E : zE} {D : va_G} {tA : Nat → ClassId} (hl : l.stackTraces = false) (a0 : Option Nat) : zMet l E D tA yX1_isConsistent (ws_ yX1_isConsistent cX1_isConsistent 1 (Option.some Jvm.ClassFile.FieldType.boolean)) 523 (s_X1_isConsistent E a0) [zP a0] := by
  refine z_met hl (by decide +kernel) (by rw [zSl_len]; exact (Nat.le_of_ble_eq_true rfl)) fun p e R s m args below meth c k0 x hret hnm htab => ?_
  refine z_lv [(0, zP a0)] rfl ?_
  unfold s_X1_isConsistent
  refine z_aload_n (pc := 0) x 0 dX1_isConsistent_0 rfl rfl ?_
  refine z_get (pc := 1) (fun _ _ h => zAsR_eq h) x in_X1 (ci := 16) rfl (k := 0) (by decide) q320 (fun _ h => h) dX1_isConsistent_1 fun v1 => ?_
  refine z_call (pc := 4) (z_canV (pc := 4) (As := []) (st := []) x (ci := 26) rfl (fun b => m_X2_isConsistent hl (some b)) q893 q894 (x.2.2.2.2.1 _ q895) q109 q896 n_X2_isConsistent ⟨by decide, by decide⟩ (Nat.le_of_ble_eq_true rfl) dX1_isConsistent_4) (zv_I fun v4 => ?_) (fun q => zx_thr x (fun z hz => (htab z hz).elim) q)
  exact z_zret (pc := 7) x hret dX1_isConsistent_7
/-! X2_describeGiven -/
def s_X2_describeGiven_65 (E : zE) (k10 : Option Nat → Option Nat → Int32 → zM) (k18 : Option Nat → Option Nat → Int32 → Int32 → zM) (a0 : Option Nat) (a1 : Option Nat) (a2 : Int32) (a3 : Int32) : zM := k18 a0 a1 a2 (a3 + (1 : Int32))
theorem w_X2_describeGiven_65 (x : zCx p l R s m args meth c E D tA cX2_describeGiven 4 yX2_describeGiven.cls 19) (hl : l.stackTraces = false) (hret : meth.sig.returnType = (Option.some (Jvm.ClassFile.FieldType.object "java/lang/String"))) (hnm : meth.name = yX2_describeGiven.name) (htab : ∀ z ∈ c.exceptionTable.toList, False) {k10 : Option Nat → Option Nat → Int32 → zM} (h10 : ∀ (a0 : Option Nat) (a1 : Option Nat) (a2 : Int32) , zW p l e R s m args below meth c E D tA 4 k0 (k10 a0 a1 a2) [(0, zP a0), (1, zP a1), (2, zI a2)] 10 []) {k18 : Option Nat → Option Nat → Int32 → Int32 → zM} (h18 : ∀ (a0 : Option Nat) (a1 : Option Nat) (a2 : Int32) (a3 : Int32) , zW p l e R s m args below meth c E D tA 4 k0 (k18 a0 a1 a2 a3) [(0, zP a0), (1, zP a1), (2, zI a2), (3, zI a3)] 18 []) (a0 : Option Nat) (a1 : Option Nat) (a2 : Int32) (a3 : Int32) : zW p l e R s m args below meth c E D tA 4 k0 (s_X2_describeGiven_65 E k10 k18 a0 a1 a2 a3) [(0, zP a0), (1, zP a1), (2, zI a2), (3, zI a3)] 65 [] := by
  unfold s_X2_describeGiven_65
  refine z_iinc (pc := 65) (lv' := [(3, zI (a3 + (1 : Int32))), (0, zP a0), (1, zP a1), (2, zI a2)]) x (v2 := (a3 + (1 : Int32))) 3 dX2_describeGiven_65 rfl rfl (Nat.le_of_ble_eq_true rfl) rfl ?_
  refine z_goto (pc := 68) (tgt := 18) x dX2_describeGiven_68 rfl ?_
  exact z_sub [1, 2, 3, 0] rfl (h18 a0 a1 a2 (a3 + (1 : Int32)))
def s_X2_describeGiven_53 (E : zE) (k10 : Option Nat → Option Nat → Int32 → zM) (k18 : Option Nat → Option Nat → Int32 → Int32 → zM) (a0 : Option Nat) (a1 : Option Nat) (a2 : Int32) (a3 : Int32) (b0 : Option Nat) (b1 : Option Nat) : zM := zC (zRv b0 [(14, fun b => s_J5_append E (some b) b1)]) zThr (zKR (fun v53 => zC (s_X1_textOf E a2 a3) zThr (zKR (fun v58 => zC (zRv v53 [(14, fun b => s_J5_append E (some b) v58)]) zThr (zKR (fun v61 => s_X2_describeGiven_65 E k10 k18 a0 a1 a2 a3))))))
theorem w_X2_describeGiven_53 (x : zCx p l R s m args meth c E D tA cX2_describeGiven 4 yX2_describeGiven.cls 19) (hl : l.stackTraces = false) (hret : meth.sig.returnType = (Option.some (Jvm.ClassFile.FieldType.object "java/lang/String"))) (hnm : meth.name = yX2_describeGiven.name) (htab : ∀ z ∈ c.exceptionTable.toList, False) {k10 : Option Nat → Option Nat → Int32 → zM} (h10 : ∀ (a0 : Option Nat) (a1 : Option Nat) (a2 : Int32) , zW p l e R s m args below meth c E D tA 4 k0 (k10 a0 a1 a2) [(0, zP a0), (1, zP a1), (2, zI a2)] 10 []) {k18 : Option Nat → Option Nat → Int32 → Int32 → zM} (h18 : ∀ (a0 : Option Nat) (a1 : Option Nat) (a2 : Int32) (a3 : Int32) , zW p l e R s m args below meth c E D tA 4 k0 (k18 a0 a1 a2 a3) [(0, zP a0), (1, zP a1), (2, zI a2), (3, zI a3)] 18 []) (a0 : Option Nat) (a1 : Option Nat) (a2 : Int32) (a3 : Int32) (b0 : Option Nat) (b1 : Option Nat) : zW p l e R s m args below meth c E D tA 4 k0 (s_X2_describeGiven_53 E k10 k18 a0 a1 a2 a3 b0 b1) [(0, zP a0), (1, zP a1), (2, zI a2), (3, zI a3)] 53 [zP b1, zP b0] := by
  unfold s_X2_describeGiven_53
  refine z_call (pc := 53) (z_canV (pc := 53) (As := [zP b1]) (st := []) x (ci := 14) rfl (fun b => m_J5_append hl (some b) b1) q1222 q1223 (x.2.2.2.2.1 _ q1224) q118 q1225 n_J5_append ⟨by decide, by decide⟩ (Nat.le_of_ble_eq_true rfl) dX2_describeGiven_53) (zv_R fun v53 => ?_) (fun q => zx_thr x (fun z hz => (htab z hz).elim) q)
  refine z_iload_n (pc := 56) x 2 dX2_describeGiven_56 rfl rfl ?_
  refine z_iload_n (pc := 57) x 3 dX2_describeGiven_57 rfl rfl ?_
  refine z_call (pc := 58) (z_canSN (pc := 58) (As := [zI a2, zI a3]) (st := [zP v53]) x (m_X1_textOf hl a2 a3) q1325 q1326 q108 q1327 n_X1_textOf ⟨by decide, by decide⟩ (Nat.le_of_ble_eq_true rfl) dX2_describeGiven_58) (zv_R fun v58 => ?_) (fun q => zx_thr x (fun z hz => (htab z hz).elim) q)
  refine z_call (pc := 61) (z_canV (pc := 61) (As := [zP v58]) (st := []) x (ci := 14) rfl (fun b => m_J5_append hl (some b) v58) q1222 q1223 (x.2.2.2.2.1 _ q1224) q118 q1225 n_J5_append ⟨by decide, by decide⟩ (Nat.le_of_ble_eq_true rfl) dX2_describeGiven_61) (zv_R fun v61 => ?_) (fun q => zx_thr x (fun z hz => (htab z hz).elim) q)
  refine z_pop (pc := 64) x dX2_describeGiven_64 rfl ?_
  exact z_sub [0, 1, 2, 3] rfl (w_X2_describeGiven_65 x hl hret hnm htab h10 h18 a0 a1 a2 a3)
def s_X2_describeGiven_18 (E : zE) (k10 : Option Nat → Option Nat → Int32 → zM) : Nat → Option Nat → Option Nat → Int32 → Int32 → zM
  | 0, _, _, _, _ => zFail
  | n + 1, a0, a1, a2, a3 => if (100 : Int32) ≤ a3 then (k10 a0 a1 (a2 + (1 : Int32))) else (zGetR a0 26 0 (fun v25 => zC (zRv v25 [(32, fun b => s_X4_has E (some b) a2 a3)]) zThr (zKI (fun v30 => if v30 = 0 then (s_X2_describeGiven_65 E k10 (s_X2_describeGiven_18 E k10 n) a0 a1 a2 a3) else (zC (zRv a1 [(14, fun b => s_J5_length E (some b))]) zThr (zKI (fun v38 => if v38 = 0 then (s_X2_describeGiven_53 E k10 (s_X2_describeGiven_18 E k10 n) a0 a1 a2 a3 a1 (some (E 31))) else (s_X2_describeGiven_53 E k10 (s_X2_describeGiven_18 E k10 n) a0 a1 a2 a3 a1 (some (E 32))))))))))
theorem w_X2_describeGiven_18 (x : zCx p l R s m args meth c E D tA cX2_describeGiven 4 yX2_describeGiven.cls 19) (hl : l.stackTraces = false) (hret : meth.sig.returnType = (Option.some (Jvm.ClassFile.FieldType.object "java/lang/String"))) (hnm : meth.name = yX2_describeGiven.name) (htab : ∀ z ∈ c.exceptionTable.toList, False) {k10 : Option Nat → Option Nat → Int32 → zM} (h10 : ∀ (a0 : Option Nat) (a1 : Option Nat) (a2 : Int32) , zW p l e R s m args below meth c E D tA 4 k0 (k10 a0 a1 a2) [(0, zP a0), (1, zP a1), (2, zI a2)] 10 []) : ∀ (n : Nat) (a0 : Option Nat) (a1 : Option Nat) (a2 : Int32) (a3 : Int32), zW p l e R s m args below meth c E D tA 4 k0 (s_X2_describeGiven_18 E k10 n a0 a1 a2 a3) [(0, zP a0), (1, zP a1), (2, zI a2), (3, zI a3)] 18 [] := by
  intro n
  induction n with
  | zero => intro a0 a1 a2 a3; exact z_fail
  | succ n h18 =>
    intro a0 a1 a2 a3
    rw [s_X2_describeGiven_18]
    refine z_iload_n (pc := 18) x 3 dX2_describeGiven_18 rfl rfl ?_
    refine z_bipush (pc := 19) x (v := (100 : Int32)) dX2_describeGiven_19 rfl ?_
    refine z_icmp_ge (pc := 21) (tgt := 71) x dX2_describeGiven_21 rfl (fun _ => ?_) (fun _ => ?_)
    · refine z_iinc (pc := 71) (lv' := [(2, zI (a2 + (1 : Int32))), (0, zP a0), (1, zP a1), (3, zI a3)]) x (v2 := (a2 + (1 : Int32))) 2 dX2_describeGiven_71 rfl rfl (Nat.le_of_ble_eq_true rfl) rfl ?_
      refine z_goto (pc := 74) (tgt := 10) x dX2_describeGiven_74 rfl ?_
      exact z_sub [1, 2, 0] rfl (h10 a0 a1 (a2 + (1 : Int32)))
    · refine z_aload_n (pc := 24) x 0 dX2_describeGiven_24 rfl rfl ?_
      refine z_get (pc := 25) (fun _ _ h => zAsR_eq h) x in_X2 (ci := 26) rfl (k := 0) (by decide) q248 (fun _ h => h) dX2_describeGiven_25 fun v25 => ?_
      refine z_iload_n (pc := 28) x 2 dX2_describeGiven_28 rfl rfl ?_
      refine z_iload_n (pc := 29) x 3 dX2_describeGiven_29 rfl rfl ?_
      refine z_call (pc := 30) (z_canV (pc := 30) (As := [zI a2, zI a3]) (st := []) x (ci := 32) rfl (fun b => m_X4_has hl (some b) a2 a3) q1212 q814 (x.2.2.2.2.1 _ q815) q114 q816 n_X4_has ⟨by decide, by decide⟩ (Nat.le_of_ble_eq_true rfl) dX2_describeGiven_30) (zv_I fun v30 => ?_) (fun q => zx_thr x (fun z hz => (htab z hz).elim) q)
      refine z_if_eq (pc := 33) (tgt := 65) x dX2_describeGiven_33 rfl (fun _ => ?_) (fun _ => ?_)
      · exact z_sub [0, 1, 2, 3] rfl (w_X2_describeGiven_65 x hl hret hnm htab h10 h18 a0 a1 a2 a3)
      · refine z_aload_n (pc := 36) x 1 dX2_describeGiven_36 rfl rfl ?_
        refine z_aload_n (pc := 37) x 1 dX2_describeGiven_37 rfl rfl ?_
        refine z_call (pc := 38) (z_canV (pc := 38) (As := []) (st := [zP a1]) x (ci := 14) rfl (fun b => m_J5_length hl (some b)) q1213 q1214 (x.2.2.2.2.1 _ q1215) q118 q1216 n_J5_length ⟨by decide, by decide⟩ (Nat.le_of_ble_eq_true rfl) dX2_describeGiven_38) (zv_I fun v38 => ?_) (fun q => zx_thr x (fun z hz => (htab z hz).elim) q)
        refine z_if_ne (pc := 41) (tgt := 50) x dX2_describeGiven_41 rfl (fun _ => ?_) (fun _ => ?_)
        · refine z_ldcwS (pc := 44) x (k := 31) (List.mem_of_getElem? (i := 15) rfl) dX2_describeGiven_44 ?_
          refine z_goto (pc := 47) (tgt := 53) x dX2_describeGiven_47 rfl ?_
          exact z_sub [0, 1, 2, 3] rfl (w_X2_describeGiven_53 x hl hret hnm htab h10 h18 a0 a1 a2 a3 a1 (some (E 31)))
        · refine z_ldcwS (pc := 50) x (k := 32) (List.mem_of_getElem? (i := 16) rfl) dX2_describeGiven_50 ?_
          exact z_sub [0, 1, 2, 3] rfl (w_X2_describeGiven_53 x hl hret hnm htab h10 h18 a0 a1 a2 a3 a1 (some (E 32)))
def s_X2_describeGiven_10 (E : zE) : Nat → Option Nat → Option Nat → Int32 → zM
  | 0, _, _, _ => zFail
  | n + 1, a0, a1, a2 => if (8 : Int32) ≤ a2 then (zC (zRv a1 [(14, fun b => s_J5_toString E (some b))]) zThr (zKR (fun v78 => zRet (some (va_rf v78))))) else (s_X2_describeGiven_18 E (s_X2_describeGiven_10 E n) zN a0 a1 a2 (0 : Int32))
theorem w_X2_describeGiven_10 (x : zCx p l R s m args meth c E D tA cX2_describeGiven 4 yX2_describeGiven.cls 19) (hl : l.stackTraces = false) (hret : meth.sig.returnType = (Option.some (Jvm.ClassFile.FieldType.object "java/lang/String"))) (hnm : meth.name = yX2_describeGiven.name) (htab : ∀ z ∈ c.exceptionTable.toList, False) : ∀ (n : Nat) (a0 : Option Nat) (a1 : Option Nat) (a2 : Int32), zW p l e R s m args below meth c E D tA 4 k0 (s_X2_describeGiven_10 E n a0 a1 a2) [(0, zP a0), (1, zP a1), (2, zI a2)] 10 [] := by
  intro n
  induction n with
  | zero => intro a0 a1 a2; exact z_fail
  | succ n h10 =>
    intro a0 a1 a2
    rw [s_X2_describeGiven_10]
    refine z_iload_n (pc := 10) x 2 dX2_describeGiven_10 rfl rfl ?_
    refine z_bipush (pc := 11) x (v := (8 : Int32)) dX2_describeGiven_11 rfl ?_
    refine z_icmp_ge (pc := 13) (tgt := 77) x dX2_describeGiven_13 rfl (fun _ => ?_) (fun _ => ?_)
    · refine z_aload_n (pc := 77) x 1 dX2_describeGiven_77 rfl rfl ?_
      refine z_call (pc := 78) (z_canV (pc := 78) (As := []) (st := []) x (ci := 14) rfl (fun b => m_J5_toString hl (some b)) q1449 q1374 (x.2.2.2.2.1 _ q1375) q118 q1376 n_J5_toString ⟨by decide, by decide⟩ (Nat.le_of_ble_eq_true rfl) dX2_describeGiven_78) (zv_R fun v78 => ?_) (fun q => zx_thr x (fun z hz => (htab z hz).elim) q)
      exact z_aret (pc := 81) x hret (Or.inl ⟨_, rfl⟩) dX2_describeGiven_81
    · refine z_iconst (pc := 16) x (v := (0 : Int32)) dX2_describeGiven_16 rfl ?_
      refine z_istore_n (pc := 17) (lv' := [(3, zI (0 : Int32)), (0, zP a0), (1, zP a1), (2, zI a2)]) x dX2_describeGiven_17 rfl (Nat.le_of_ble_eq_true rfl) rfl ?_
      exact z_sub [1, 2, 3, 0] rfl (w_X2_describeGiven_18 x hl hret hnm htab h10 zN a0 a1 a2 (0 : Int32))
def s_X2_describeGiven (E : zE) (a0 : Option Nat) : zM := zNew 14 4 [.null, .int 0, .int 0, .int 0] (fun v0 => zC (zSp v0 (fun b => s_J5_init E (some b))) zThr (zKV (s_X2_describeGiven_10 E zN a0 v0 (0 : Int32))))
theorem m_X2_describeGiven {l : Launch} {E : zE} {D : va_G} {tA : Nat → ClassId} (hl : l.stackTraces = false) (a0 : Option Nat) : zMet l E D tA yX2_describeGiven (ws_ yX2_describeGiven cX2_describeGiven 4 (Option.some (Jvm.ClassFile.FieldType.object "java/lang/String"))) 19 (s_X2_describeGiven E a0) [zP a0] := by
  refine z_met hl (by decide +kernel) (by rw [zSl_len]; exact (Nat.le_of_ble_eq_true rfl)) fun p e R s m args below meth c k0 x hret hnm htab => ?_
  refine z_lv [(0, zP a0)] rfl ?_
  unfold s_X2_describeGiven
  refine z_new (pc := 0) x in_J5 tyJ5 tyJ5_ok q1210 q287 q118 (ci := 14) rfl (by decide) (by decide +kernel) dX2_describeGiven_0 fun v0 => ?_
  refine z_dup (pc := 3) x dX2_describeGiven_3 rfl ?_
  refine z_call (pc := 4) (z_canI (pc := 4) (ret := none) (As := []) (st := [zP v0]) x (fun b => m_J5_init hl (some b)) q1211 rfl q289 q118 q290 n_J5_init ⟨by decide, by decide⟩ (Nat.le_of_ble_eq_true rfl) dX2_describeGiven_4) (zv_V ?_) (fun q => zx_thr x (fun z hz => (htab z hz).elim) q)
  refine z_astore_n (pc := 7) (lv' := [(1, zP v0), (0, zP a0)]) x dX2_describeGiven_7 rfl (Nat.le_of_ble_eq_true rfl) rfl ?_
  refine z_iconst (pc := 8) x (v := (0 : Int32)) dX2_describeGiven_8 rfl ?_
  refine z_istore_n (pc := 9) (lv' := [(2, zI (0 : Int32)), (1, zP v0), (0, zP a0)]) x dX2_describeGiven_9 rfl (Nat.le_of_ble_eq_true rfl) rfl ?_
  exact z_sub [2, 1, 0] rfl (w_X2_describeGiven_10 x hl hret hnm htab zN a0 v0 (0 : Int32))
/-! X1_writeGiven -/
def s_X1_writeGiven (E : zE) (a0 : Option Nat) : zM := zGetR a0 16 0 (fun v2 => zC (zRv v2 [(26, fun b => s_X2_describeGiven E (some b))]) zThr (zKR (fun v5 => zC (zRv a0 [(16, fun b => s_X1_write E (some b) v5)]) zThr (zKI (fun v8 => zRet (some (.int v8)))))))
theorem m_X1_writeGiven {l : Launch} {E : zE} {D : va_G} {tA : Nat → ClassId} (hl : l.stackTraces = false) (a0 : Option Nat) : zMet l E D tA yX1_writeGiven (ws_ yX1_writeGiven cX1_writeGiven 1 (Option.some Jvm.ClassFile.FieldType.int)) 20 (s_X1_writeGiven E a0) [zP a0] := by
  refine z_met hl (by decide +kernel) (by rw [zSl_len]; exact (Nat.le_of_ble_eq_true rfl)) fun p e R s m args below meth c k0 x hret hnm htab => ?_
  refine z_lv [(0, zP a0)] rfl ?_
  unfold s_X1_writeGiven
  refine z_aload_n (pc := 0) x 0 dX1_writeGiven_0 rfl rfl ?_
  refine z_aload_n (pc := 1) x 0 dX1_writeGiven_1 rfl rfl ?_
  refine z_get (pc := 2) (fun _ _ h => zAsR_eq h) x in_X1 (ci := 16) rfl (k := 0) (by decide) q320 (fun _ h => h) dX1_writeGiven_2 fun v2 => ?_
  refine z_call (pc := 5) (z_canV (pc := 5) (As := []) (st := [zP a0]) x (ci := 26) rfl (fun b => m_X2_describeGiven hl (some b)) q1206 q1207 (x.2.2.2.2.1 _ q1208) q109 q1209 n_X2_describeGiven ⟨by decide, by decide⟩ (Nat.le_of_ble_eq_true rfl) dX1_writeGiven_5) (zv_R fun v5 => ?_) (fun q => zx_thr x (fun z hz => (htab z hz).elim) q)
  refine z_call (pc := 8) (z_canV (pc := 8) (As := [zP v5]) (st := []) x (ci := 16) rfl (fun b => m_X1_write hl (some b) v5) q1450 q1452 (z_selP x (ci := 16) rfl (by decide) (zNi_inst x q168) q1451 q1452) q108 q1453 n_X1_write ⟨by decide, by decide⟩ (Nat.le_of_ble_eq_true rfl) dX1_writeGiven_8) (zv_I fun v8 => ?_) (fun q => zx_thr x (fun z hz => (htab z hz).elim) q)
  exact z_iret (pc := 11) x hret dX1_writeGiven_11
/-! X1_save -/
def s_X1_save (E : zE) (a0 : Option Nat) : zM := zGetR a0 16 0 (fun v2 => zSet E a0 16 1 (zVal (zP v2)) (zRet none))
theorem m_X1_save {l : Launch} {E : zE} {D : va_G} {tA : Nat → ClassId} (hl : l.stackTraces = false) (a0 : Option Nat) : zMet l E D tA yX1_save (ws_ yX1_save cX1_save 1 (Option.none : Option Jvm.ClassFile.FieldType)) 9 (s_X1_save E a0) [zP a0] := by
  refine z_met hl (by decide +kernel) (by rw [zSl_len]; exact (Nat.le_of_ble_eq_true rfl)) fun p e R s m args below meth c k0 x hret hnm htab => ?_
  refine z_lv [(0, zP a0)] rfl ?_
  unfold s_X1_save
  refine z_aload_n (pc := 0) x 0 dX1_save_0 rfl rfl ?_
  refine z_aload_n (pc := 1) x 0 dX1_save_1 rfl rfl ?_
  refine z_get (pc := 2) (fun _ _ h => zAsR_eq h) x in_X1 (ci := 16) rfl (k := 0) (by decide) q320 (fun _ h => h) dX1_save_2 fun v2 => ?_
  refine z_set (pc := 5) (v := zP v2) x in_X1 tyX1 tyX1_ok nmX1 (ci := 16) rfl (k := 1) (by decide) q321 (fun _ h => h) rfl (zfitR rfl _).1 (zfitR rfl _).2 dX1_save_5 ?_
  exact z_vret (pc := 8) x hret dX1_save_8
/-! X6_init -/
def s_X6_init (E : zE) (a0 : Option Nat) : zM := zSp a0 (fun _ => zNewA 0 zAr0 (1128 : Int32) (fun v8 => zSet E a0 34 0 (zVal (zP v8)) (zNewA 0 zAr0 (1128 : Int32) (fun v17 => zSet E a0 34 1 (zVal (zP v17)) (zNewA 0 zAr0 (1128 : Int32) (fun v26 => zSet E a0 34 2 (zVal (zP v26)) (zNewA 0 zAr0 (9024 : Int32) (fun v35 => zSet E a0 34 3 (zVal (zP v35)) (zNewA 0 zAr0 (440 : Int32) (fun v44 => zSet E a0 34 4 (zVal (zP v44)) (zNewA 0 zAr0 (440 : Int32) (fun v53 => zSet E a0 34 5 (zVal (zP v53)) (zNewA 0 zAr0 (440 : Int32) (fun v62 => zSet E a0 34 6 (zVal (zP v62)) (zNewA 0 zAr0 (8 : Int32) (fun v70 => zSet E a0 34 7 (zVal (zP v70)) (zNewA 0 zAr0 (3 : Int32) (fun v77 => zSet E a0 34 8 (zVal (zP v77)) (zNewA 2 zAr0 (440 : Int32) (fun v86 => zSet E a0 34 9 (zVal (zP v86)) (zNewA 2 zAr0 (440 : Int32) (fun v95 => zSet E a0 34 10 (zVal (zP v95)) (zNewA 2 zAr0 (64 : Int32) (fun v103 => zSet E a0 34 11 (zVal (zP v103)) (zSet E a0 34 14 (zVal (zI (-1 : Int32))) (zSet E a0 34 15 (zVal (zI (-1 : Int32))) (zNewA 0 zAr0 (60 : Int32) (fun v121 => zSet E a0 34 21 (zVal (zP v121)) (zNewA 0 zAr0 (924 : Int32) (fun v130 => zSet E a0 34 22 (zVal (zP v130)) (zNewA 0 zAr0 (200 : Int32) (fun v139 => zSet E a0 34 26 (zVal (zP v139)) (zRet none)))))))))))))))))))))))))))))))))
theorem m_X6_init {l : Launch} {E : zE} {D : va_G} {tA : Nat → ClassId} (hl : l.stackTraces = false) (a0 : Option Nat) : zMet l E D tA yX6_init (ws_ yX6_init cX6_init 1 (Option.none : Option Jvm.ClassFile.FieldType)) 9 (s_X6_init E a0) [zP a0] := by
  refine z_met hl (by decide +kernel) (by rw [zSl_len]; exact (Nat.le_of_ble_eq_true rfl)) fun p e R s m args below meth c k0 x hret hnm htab => ?_
  refine z_lv [(0, zP a0)] rfl ?_
  unfold s_X6_init
  refine z_aload_n (pc := 0) x 0 dX6_init_0 rfl rfl ?_
  refine z_objInit (pc := 1) x q2784 q173 q174 (by omega) (zSum (k := 0) rfl (by omega)) dX6_init_1 ?_
  refine z_aload_n (pc := 4) x 0 dX6_init_4 rfl rfl ?_
  refine z_sipush (pc := 5) x (v := (1128 : Int32)) dX6_init_5 rfl ?_
  refine z_newA (pc := 8) x (ty := .int) rfl (by decide) rfl q240 (fun _ _ => rfl) dX6_init_8 fun v8 => ?_
  refine z_setF (pc := 10) (v := zP v8) x in_X6 tyX6 tyX6_ok nmX6 (ci := 34) rfl (k := 0) (by decide) q2785 (fun _ h => h) rfl hnm rfl (zfitR rfl _).1 (zfitR rfl _).2 dX6_init_10 ?_
  refine z_aload_n (pc := 13) x 0 dX6_init_13 rfl rfl ?_
  refine z_sipush (pc := 14) x (v := (1128 : Int32)) dX6_init_14 rfl ?_
  refine z_newA (pc := 17) x (ty := .int) rfl (by decide) rfl q240 (fun _ _ => rfl) dX6_init_17 fun v17 => ?_
  refine z_setF (pc := 19) (v := zP v17) x in_X6 tyX6 tyX6_ok nmX6 (ci := 34) rfl (k := 1) (by decide) q2786 (fun _ h => h) rfl hnm rfl (zfitR rfl _).1 (zfitR rfl _).2 dX6_init_19 ?_
  refine z_aload_n (pc := 22) x 0 dX6_init_22 rfl rfl ?_
  refine z_sipush (pc := 23) x (v := (1128 : Int32)) dX6_init_23 rfl ?_
  refine z_newA (pc := 26) x (ty := .int) rfl (by decide) rfl q240 (fun _ _ => rfl) dX6_init_26 fun v26 => ?_
  refine z_setF (pc := 28) (v := zP v26) x in_X6 tyX6 tyX6_ok nmX6 (ci := 34) rfl (k := 2) (by decide) q2787 (fun _ h => h) rfl hnm rfl (zfitR rfl _).1 (zfitR rfl _).2 dX6_init_28 ?_
  refine z_aload_n (pc := 31) x 0 dX6_init_31 rfl rfl ?_
  refine z_sipush (pc := 32) x (v := (9024 : Int32)) dX6_init_32 rfl ?_
  refine z_newA (pc := 35) x (ty := .int) rfl (by decide) rfl q240 (fun _ _ => rfl) dX6_init_35 fun v35 => ?_
  refine z_setF (pc := 37) (v := zP v35) x in_X6 tyX6 tyX6_ok nmX6 (ci := 34) rfl (k := 3) (by decide) q2788 (fun _ h => h) rfl hnm rfl (zfitR rfl _).1 (zfitR rfl _).2 dX6_init_37 ?_
  refine z_aload_n (pc := 40) x 0 dX6_init_40 rfl rfl ?_
  refine z_sipush (pc := 41) x (v := (440 : Int32)) dX6_init_41 rfl ?_
  refine z_newA (pc := 44) x (ty := .int) rfl (by decide) rfl q240 (fun _ _ => rfl) dX6_init_44 fun v44 => ?_
  refine z_setF (pc := 46) (v := zP v44) x in_X6 tyX6 tyX6_ok nmX6 (ci := 34) rfl (k := 4) (by decide) q2789 (fun _ h => h) rfl hnm rfl (zfitR rfl _).1 (zfitR rfl _).2 dX6_init_46 ?_
  refine z_aload_n (pc := 49) x 0 dX6_init_49 rfl rfl ?_
  refine z_sipush (pc := 50) x (v := (440 : Int32)) dX6_init_50 rfl ?_
  refine z_newA (pc := 53) x (ty := .int) rfl (by decide) rfl q240 (fun _ _ => rfl) dX6_init_53 fun v53 => ?_
  refine z_setF (pc := 55) (v := zP v53) x in_X6 tyX6 tyX6_ok nmX6 (ci := 34) rfl (k := 5) (by decide) q2790 (fun _ h => h) rfl hnm rfl (zfitR rfl _).1 (zfitR rfl _).2 dX6_init_55 ?_
  refine z_aload_n (pc := 58) x 0 dX6_init_58 rfl rfl ?_
  refine z_sipush (pc := 59) x (v := (440 : Int32)) dX6_init_59 rfl ?_
  refine z_newA (pc := 62) x (ty := .int) rfl (by decide) rfl q240 (fun _ _ => rfl) dX6_init_62 fun v62 => ?_
  refine z_setF (pc := 64) (v := zP v62) x in_X6 tyX6 tyX6_ok nmX6 (ci := 34) rfl (k := 6) (by decide) q2791 (fun _ h => h) rfl hnm rfl (zfitR rfl _).1 (zfitR rfl _).2 dX6_init_64 ?_
  refine z_aload_n (pc := 67) x 0 dX6_init_67 rfl rfl ?_
  refine z_bipush (pc := 68) x (v := (8 : Int32)) dX6_init_68 rfl ?_
  refine z_newA (pc := 70) x (ty := .int) rfl (by decide) rfl q240 (fun _ _ => rfl) dX6_init_70 fun v70 => ?_
  refine z_setF (pc := 72) (v := zP v70) x in_X6 tyX6 tyX6_ok nmX6 (ci := 34) rfl (k := 7) (by decide) q2792 (fun _ h => h) rfl hnm rfl (zfitR rfl _).1 (zfitR rfl _).2 dX6_init_72 ?_
  refine z_aload_n (pc := 75) x 0 dX6_init_75 rfl rfl ?_
  refine z_iconst (pc := 76) x (v := (3 : Int32)) dX6_init_76 rfl ?_
  refine z_newA (pc := 77) x (ty := .int) rfl (by decide) rfl q240 (fun _ _ => rfl) dX6_init_77 fun v77 => ?_
  refine z_setF (pc := 79) (v := zP v77) x in_X6 tyX6 tyX6_ok nmX6 (ci := 34) rfl (k := 8) (by decide) q2793 (fun _ h => h) rfl hnm rfl (zfitR rfl _).1 (zfitR rfl _).2 dX6_init_79 ?_
  refine z_aload_n (pc := 82) x 0 dX6_init_82 rfl rfl ?_
  refine z_sipush (pc := 83) x (v := (440 : Int32)) dX6_init_83 rfl ?_
  refine z_newA (pc := 86) x (ty := .boolean) rfl (by decide) rfl q409 (fun _ _ => rfl) dX6_init_86 fun v86 => ?_
  refine z_setF (pc := 88) (v := zP v86) x in_X6 tyX6 tyX6_ok nmX6 (ci := 34) rfl (k := 9) (by decide) q2794 (fun _ h => h) rfl hnm rfl (zfitR rfl _).1 (zfitR rfl _).2 dX6_init_88 ?_
  refine z_aload_n (pc := 91) x 0 dX6_init_91 rfl rfl ?_
  refine z_sipush (pc := 92) x (v := (440 : Int32)) dX6_init_92 rfl ?_
  refine z_newA (pc := 95) x (ty := .boolean) rfl (by decide) rfl q409 (fun _ _ => rfl) dX6_init_95 fun v95 => ?_
  refine z_setF (pc := 97) (v := zP v95) x in_X6 tyX6 tyX6_ok nmX6 (ci := 34) rfl (k := 10) (by decide) q2795 (fun _ h => h) rfl hnm rfl (zfitR rfl _).1 (zfitR rfl _).2 dX6_init_97 ?_
  refine z_aload_n (pc := 100) x 0 dX6_init_100 rfl rfl ?_
  refine z_bipush (pc := 101) x (v := (64 : Int32)) dX6_init_101 rfl ?_
  refine z_newA (pc := 103) x (ty := .boolean) rfl (by decide) rfl q409 (fun _ _ => rfl) dX6_init_103 fun v103 => ?_
  refine z_setF (pc := 105) (v := zP v103) x in_X6 tyX6 tyX6_ok nmX6 (ci := 34) rfl (k := 11) (by decide) q2796 (fun _ h => h) rfl hnm rfl (zfitR rfl _).1 (zfitR rfl _).2 dX6_init_105 ?_
  refine z_aload_n (pc := 108) x 0 dX6_init_108 rfl rfl ?_
  refine z_iconst (pc := 109) x (v := (-1 : Int32)) dX6_init_109 rfl ?_
  refine z_set (pc := 110) (v := zI (-1 : Int32)) x in_X6 tyX6 tyX6_ok nmX6 (ci := 34) rfl (k := 14) (by decide) q2799 (fun _ h => h) rfl rfl rfl dX6_init_110 ?_
  refine z_aload_n (pc := 113) x 0 dX6_init_113 rfl rfl ?_
  refine z_iconst (pc := 114) x (v := (-1 : Int32)) dX6_init_114 rfl ?_
  refine z_set (pc := 115) (v := zI (-1 : Int32)) x in_X6 tyX6 tyX6_ok nmX6 (ci := 34) rfl (k := 15) (by decide) q2800 (fun _ h => h) rfl rfl rfl dX6_init_115 ?_
  refine z_aload_n (pc := 118) x 0 dX6_init_118 rfl rfl ?_
  refine z_bipush (pc := 119) x (v := (60 : Int32)) dX6_init_119 rfl ?_
  refine z_newA (pc := 121) x (ty := .int) rfl (by decide) rfl q240 (fun _ _ => rfl) dX6_init_121 fun v121 => ?_
  refine z_setF (pc := 123) (v := zP v121) x in_X6 tyX6 tyX6_ok nmX6 (ci := 34) rfl (k := 21) (by decide) q2806 (fun _ h => h) rfl hnm rfl (zfitR rfl _).1 (zfitR rfl _).2 dX6_init_123 ?_
  refine z_aload_n (pc := 126) x 0 dX6_init_126 rfl rfl ?_
  refine z_sipush (pc := 127) x (v := (924 : Int32)) dX6_init_127 rfl ?_
  refine z_newA (pc := 130) x (ty := .int) rfl (by decide) rfl q240 (fun _ _ => rfl) dX6_init_130 fun v130 => ?_
  refine z_setF (pc := 132) (v := zP v130) x in_X6 tyX6 tyX6_ok nmX6 (ci := 34) rfl (k := 22) (by decide) q2807 (fun _ h => h) rfl hnm rfl (zfitR rfl _).1 (zfitR rfl _).2 dX6_init_132 ?_
  refine z_aload_n (pc := 135) x 0 dX6_init_135 rfl rfl ?_
  refine z_sipush (pc := 136) x (v := (200 : Int32)) dX6_init_136 rfl ?_
  refine z_newA (pc := 139) x (ty := .int) rfl (by decide) rfl q240 (fun _ _ => rfl) dX6_init_139 fun v139 => ?_
  refine z_setF (pc := 141) (v := zP v139) x in_X6 tyX6 tyX6_ok nmX6 (ci := 34) rfl (k := 26) (by decide) q2811 (fun _ h => h) rfl hnm rfl (zfitR rfl _).1 (zfitR rfl _).2 dX6_init_141 ?_
  exact z_vret (pc := 144) x hret dX6_init_144
/-! X6_thrown -/
def s_X6_thrown (E : zE) (a0 : Option Nat) : zM := zGetI a0 34 13 (fun v1 => zRet (some (.int v1)))
theorem m_X6_thrown {l : Launch} {E : zE} {D : va_G} {tA : Nat → ClassId} (hl : l.stackTraces = false) (a0 : Option Nat) : zMet l E D tA yX6_thrown (ws_ yX6_thrown cX6_thrown 1 (Option.some Jvm.ClassFile.FieldType.int)) 9 (s_X6_thrown E a0) [zP a0] := by
  refine z_met hl (by decide +kernel) (by rw [zSl_len]; exact (Nat.le_of_ble_eq_true rfl)) fun p e R s m args below meth c k0 x hret hnm htab => ?_
  refine z_lv [(0, zP a0)] rfl ?_
  unfold s_X6_thrown
  refine z_aload_n (pc := 0) x 0 dX6_thrown_0 rfl rfl ?_
  refine z_get (pc := 1) (fun _ _ h => zAsI_eq h) x in_X6 (ci := 34) rfl (k := 13) (by decide) q2798 (fun _ h => h) dX6_thrown_1 fun v1 => ?_
  exact z_iret (pc := 4) x hret dX6_thrown_4
/-! X6_copies -/
def s_X6_copies_3 (E : zE) : Nat → Option Nat → Int32 → Option Nat → Int32 → Int32 → zM
  | 0, _, _, _, _, _ => zFail
  | n + 1, a0, a1, a2, a3, a4 => if (1128 : Int32) ≤ a4 then (zRet none) else (zGaI 0 a0 (a1 + a4) (fun v21 => zSaI E 0 a2 (a3 + a4) v21 ((s_X6_copies_3 E n) a0 a1 a2 a3 (a4 + (1 : Int32)))))
theorem w_X6_copies_3 (x : zCx p l R s m args meth c E D tA cX6_copies 5 yX6_copies.cls 9) (hl : l.stackTraces = false) (hret : meth.sig.returnType = (Option.none : Option Jvm.ClassFile.FieldType)) (hnm : meth.name = yX6_copies.name) (htab : ∀ z ∈ c.exceptionTable.toList, False) : ∀ (n : Nat) (a0 : Option Nat) (a1 : Int32) (a2 : Option Nat) (a3 : Int32) (a4 : Int32), zW p l e R s m args below meth c E D tA 5 k0 (s_X6_copies_3 E n a0 a1 a2 a3 a4) [(0, zP a0), (1, zI a1), (2, zP a2), (3, zI a3), (4, zI a4)] 3 [] := by
  intro n
  induction n with
  | zero => intro a0 a1 a2 a3 a4; exact z_fail
  | succ n h3 =>
    intro a0 a1 a2 a3 a4
    rw [s_X6_copies_3]
    refine z_iload (pc := 3) x 4 dX6_copies_3 rfl ?_
    refine z_sipush (pc := 5) x (v := (1128 : Int32)) dX6_copies_5 rfl ?_
    refine z_icmp_ge (pc := 8) (tgt := 29) x dX6_copies_8 rfl (fun _ => ?_) (fun _ => ?_)
    · exact z_vret (pc := 29) x hret dX6_copies_29
    · refine z_aload_n (pc := 11) x 2 dX6_copies_11 rfl rfl ?_
      refine z_iload_n (pc := 12) x 3 dX6_copies_12 rfl rfl ?_
      refine z_iload (pc := 13) x 4 dX6_copies_13 rfl ?_
      refine z_iadd (pc := 15) x dX6_copies_15 ?_
      refine z_aload_n (pc := 16) x 0 dX6_copies_16 rfl rfl ?_
      refine z_iload_n (pc := 17) x 1 dX6_copies_17 rfl rfl ?_
      refine z_iload (pc := 18) x 4 dX6_copies_18 rfl ?_
      refine z_iadd (pc := 20) x dX6_copies_20 ?_
      refine z_iald (pc := 21) x (t := 0) rfl dX6_copies_21 fun v21 => ?_
      refine z_iast (pc := 22) x (t := 0) rfl dX6_copies_22 ?_
      refine z_iinc (pc := 23) (lv' := [(4, zI (a4 + (1 : Int32))), (0, zP a0), (1, zI a1), (2, zP a2), (3, zI a3)]) x (v2 := (a4 + (1 : Int32))) 4 dX6_copies_23 rfl rfl (Nat.le_of_ble_eq_true rfl) rfl ?_
      refine z_goto (pc := 26) (tgt := 3) x dX6_copies_26 rfl ?_
      exact z_sub [1, 2, 3, 4, 0] rfl (h3 a0 a1 a2 a3 (a4 + (1 : Int32)))
def s_X6_copies (E : zE) (a0 : Option Nat) (a1 : Int32) (a2 : Option Nat) (a3 : Int32) : zM := s_X6_copies_3 E zN a0 a1 a2 a3 (0 : Int32)
theorem m_X6_copies {l : Launch} {E : zE} {D : va_G} {tA : Nat → ClassId} (hl : l.stackTraces = false) (a0 : Option Nat) (a1 : Int32) (a2 : Option Nat) (a3 : Int32) : zMet l E D tA yX6_copies (ws_ yX6_copies cX6_copies 5 (Option.none : Option Jvm.ClassFile.FieldType)) 9 (s_X6_copies E a0 a1 a2 a3) [zP a0, zI a1, zP a2, zI a3] := by
  refine z_met hl (by decide +kernel) (by rw [zSl_len]; exact (Nat.le_of_ble_eq_true rfl)) fun p e R s m args below meth c k0 x hret hnm htab => ?_
  refine z_lv [(0, zP a0), (1, zI a1), (2, zP a2), (3, zI a3)] rfl ?_
  unfold s_X6_copies
  refine z_iconst (pc := 0) x (v := (0 : Int32)) dX6_copies_0 rfl ?_
  refine z_istore (pc := 1) (lv' := [(4, zI (0 : Int32)), (0, zP a0), (1, zI a1), (2, zP a2), (3, zI a3)]) x dX6_copies_1 (Nat.le_of_ble_eq_true rfl) rfl ?_
  exact z_sub [1, 2, 3, 4, 0] rfl (w_X6_copies_3 x hl hret hnm htab zN a0 a1 a2 a3 (0 : Int32))
/-! X6_keeps -/
def s_X6_keeps (E : zE) (a0 : Option Nat) : zM := zGetR a0 34 0 (fun v1 => zGetR a0 34 1 (fun v6 => zC (s_X6_copies E v1 (0 : Int32) v6 (0 : Int32)) zThr (zKV (zSet E a0 34 13 (zVal (zI (0 : Int32))) (zRet none)))))
theorem m_X6_keeps {l : Launch} {E : zE} {D : va_G} {tA : Nat → ClassId} (hl : l.stackTraces = false) (a0 : Option Nat) : zMet l E D tA yX6_keeps (ws_ yX6_keeps cX6_keeps 1 (Option.none : Option Jvm.ClassFile.FieldType)) 10 (s_X6_keeps E a0) [zP a0] := by
  refine z_met hl (by decide +kernel) (by rw [zSl_len]; exact (Nat.le_of_ble_eq_true rfl)) fun p e R s m args below meth c k0 x hret hnm htab => ?_
  refine z_lv [(0, zP a0)] rfl ?_
  unfold s_X6_keeps
  refine z_aload_n (pc := 0) x 0 dX6_keeps_0 rfl rfl ?_
  refine z_get (pc := 1) (fun _ _ h => zAsR_eq h) x in_X6 (ci := 34) rfl (k := 0) (by decide) q2785 (fun _ h => h) dX6_keeps_1 fun v1 => ?_
  refine z_iconst (pc := 4) x (v := (0 : Int32)) dX6_keeps_4 rfl ?_
  refine z_aload_n (pc := 5) x 0 dX6_keeps_5 rfl rfl ?_
  refine z_get (pc := 6) (fun _ _ h => zAsR_eq h) x in_X6 (ci := 34) rfl (k := 1) (by decide) q2786 (fun _ h => h) dX6_keeps_6 fun v6 => ?_
  refine z_iconst (pc := 9) x (v := (0 : Int32)) dX6_keeps_9 rfl ?_
  refine z_call (pc := 10) (z_canS (pc := 10) (As := [zP v1, zI (0 : Int32), zP v6, zI (0 : Int32)]) (st := []) x (m_X6_copies hl v1 (0 : Int32) v6 (0 : Int32)) q2882 q2883 q121 q2884 n_X6_copies ⟨by decide, by decide⟩ (Nat.le_of_ble_eq_true rfl) dX6_keeps_10) (zv_V ?_) (fun q => zx_thr x (fun z hz => (htab z hz).elim) q)
  refine z_aload_n (pc := 13) x 0 dX6_keeps_13 rfl rfl ?_
  refine z_iconst (pc := 14) x (v := (0 : Int32)) dX6_keeps_14 rfl ?_
  refine z_set (pc := 15) (v := zI (0 : Int32)) x in_X6 tyX6 tyX6_ok nmX6 (ci := 34) rfl (k := 13) (by decide) q2798 (fun _ h => h) rfl rfl rfl dX6_keeps_15 ?_
  exact z_vret (pc := 18) x hret dX6_keeps_18
/-! X6_isIn -/
def s_X6_isIn (E : zE) (a0 : Int32) (a1 : Int32) (a2 : Int32) : zM := if a0 < a1 then (zRetN .boolean (0 : Int32)) else (if a2 < a0 then (zRetN .boolean (0 : Int32)) else (zRetN .boolean (1 : Int32)))
theorem m_X6_isIn {l : Launch} {E : zE} {D : va_G} {tA : Nat → ClassId} (hl : l.stackTraces = false) (a0 : Int32) (a1 : Int32) (a2 : Int32) : zMet l E D tA yX6_isIn (ws_ yX6_isIn cX6_isIn 3 (Option.some Jvm.ClassFile.FieldType.boolean)) 9 (s_X6_isIn E a0 a1 a2) [zI a0, zI a1, zI a2] := by
  refine z_met hl (by decide +kernel) (by rw [zSl_len]; exact (Nat.le_of_ble_eq_true rfl)) fun p e R s m args below meth c k0 x hret hnm htab => ?_
  refine z_lv [(0, zI a0), (1, zI a1), (2, zI a2)] rfl ?_
  unfold s_X6_isIn
  refine z_iload_n (pc := 0) x 0 dX6_isIn_0 rfl rfl ?_
  refine z_iload_n (pc := 1) x 1 dX6_isIn_1 rfl rfl ?_
  refine z_icmp_lt (pc := 2) (tgt := 14) x dX6_isIn_2 rfl (fun _ => ?_) (fun _ => ?_)
  · refine z_iconst (pc := 14) x (v := (0 : Int32)) dX6_isIn_14 rfl ?_
    exact z_zret (pc := 15) x hret dX6_isIn_15
  · refine z_iload_n (pc := 5) x 0 dX6_isIn_5 rfl rfl ?_
    refine z_iload_n (pc := 6) x 2 dX6_isIn_6 rfl rfl ?_
    refine z_icmp_gt (pc := 7) (tgt := 14) x dX6_isIn_7 rfl (fun _ => ?_) (fun _ => ?_)
    · refine z_iconst (pc := 14) x (v := (0 : Int32)) dX6_isIn_14 rfl ?_
      exact z_zret (pc := 15) x hret dX6_isIn_15
    · refine z_iconst (pc := 10) x (v := (1 : Int32)) dX6_isIn_10 rfl ?_
      refine z_goto (pc := 11) (tgt := 15) x dX6_isIn_11 rfl ?_
      exact z_zret (pc := 15) x hret dX6_isIn_15
/-! X6_isPredicate -/
def s_X6_isPredicate (E : zE) (a0 : Int32) : zM := zC (s_X6_isIn E a0 (97 : Int32) (104 : Int32)) zThr (zKI (fun v5 => zRetN .boolean v5))
theorem m_X6_isPredicate {l : Launch} {E : zE} {D : va_G} {tA : Nat → ClassId} (hl : l.stackTraces = false) (a0 : Int32) : zMet l E D tA yX6_isPredicate (ws_ yX6_isPredicate cX6_isPredicate 1 (Option.some Jvm.ClassFile.FieldType.boolean)) 10 (s_X6_isPredicate E a0) [zI a0] := by
  refine z_met hl (by decide +kernel) (by rw [zSl_len]; exact (Nat.le_of_ble_eq_true rfl)) fun p e R s m args below meth c k0 x hret hnm htab => ?_
  refine z_lv [(0, zI a0)] rfl ?_
  unfold s_X6_isPredicate
  refine z_iload_n (pc := 0) x 0 dX6_isPredicate_0 rfl rfl ?_
  refine z_bipush (pc := 1) x (v := (97 : Int32)) dX6_isPredicate_1 rfl ?_
  refine z_bipush (pc := 3) x (v := (104 : Int32)) dX6_isPredicate_3 rfl ?_
  refine z_call (pc := 5) (z_canS (pc := 5) (As := [zI a0, zI (97 : Int32), zI (104 : Int32)]) (st := []) x (m_X6_isIn hl a0 (97 : Int32) (104 : Int32)) q2895 q2896 q121 q2897 n_X6_isIn ⟨by decide, by decide⟩ (Nat.le_of_ble_eq_true rfl) dX6_isPredicate_5) (zv_I fun v5 => ?_) (fun q => zx_thr x (fun z hz => (htab z hz).elim) q)
  exact z_zret (pc := 8) x hret dX6_isPredicate_8
/-! X6_isFact -/
def s_X6_isFact_22 (E : zE) (a0 : Int32) (a2 : Int32) (b0 : Int32) : zM := if b0 = 0 then (zRetN .boolean (0 : Int32)) else (if (101 : Int32) ≤ a0 then (if a2 = (-1 : Int32) then (zRetN .boolean (1 : Int32)) else (zRetN .boolean (0 : Int32))) else (zC (s_X6_isIn E a2 (0 : Int32) (9 : Int32)) zThr (zKI (fun v37 => if v37 = 0 then (zRetN .boolean (0 : Int32)) else (zRetN .boolean (1 : Int32))))))
theorem w_X6_isFact_22 (x : zCx p l R s m args meth c E D tA cX6_isFact 4 yX6_isFact.cls 11) (hl : l.stackTraces = false) (hret : meth.sig.returnType = (Option.some Jvm.ClassFile.FieldType.boolean)) (hnm : meth.name = yX6_isFact.name) (htab : ∀ z ∈ c.exceptionTable.toList, False) (a0 : Int32) (a2 : Int32) (b0 : Int32) : zW p l e R s m args below meth c E D tA 4 k0 (s_X6_isFact_22 E a0 a2 b0) [(0, zI a0), (2, zI a2)] 22 [zI b0] := by
  unfold s_X6_isFact_22
  refine z_istore_n (pc := 22) (lv' := [(3, zI b0), (0, zI a0), (2, zI a2)]) x dX6_isFact_22 rfl (Nat.le_of_ble_eq_true rfl) rfl ?_
  refine z_iload_n (pc := 23) x 0 dX6_isFact_23 rfl rfl ?_
  refine z_if_eq (pc := 24) (tgt := 55) x dX6_isFact_24 rfl (fun _ => ?_) (fun _ => ?_)
  · refine z_iconst (pc := 55) x (v := (0 : Int32)) dX6_isFact_55 rfl ?_
    exact z_zret (pc := 56) x hret dX6_isFact_56
  · refine z_iload_n (pc := 27) x 1 dX6_isFact_27 rfl rfl ?_
    refine z_bipush (pc := 28) x (v := (101 : Int32)) dX6_isFact_28 rfl ?_
    refine z_icmp_ge (pc := 30) (tgt := 46) x dX6_isFact_30 rfl (fun _ => ?_) (fun _ => ?_)
    · refine z_iload_n (pc := 46) x 2 dX6_isFact_46 rfl rfl ?_
      refine z_iconst (pc := 47) x (v := (-1 : Int32)) dX6_isFact_47 rfl ?_
      refine z_icmp_ne (pc := 48) (tgt := 55) x dX6_isFact_48 rfl (fun _ => ?_) (fun _ => ?_)
      · refine z_iconst (pc := 51) x (v := (1 : Int32)) dX6_isFact_51 rfl ?_
        refine z_goto (pc := 52) (tgt := 56) x dX6_isFact_52 rfl ?_
        exact z_zret (pc := 56) x hret dX6_isFact_56
      · refine z_iconst (pc := 55) x (v := (0 : Int32)) dX6_isFact_55 rfl ?_
        exact z_zret (pc := 56) x hret dX6_isFact_56
    · refine z_iload_n (pc := 33) x 2 dX6_isFact_33 rfl rfl ?_
      refine z_iconst (pc := 34) x (v := (0 : Int32)) dX6_isFact_34 rfl ?_
      refine z_bipush (pc := 35) x (v := (9 : Int32)) dX6_isFact_35 rfl ?_
      refine z_call (pc := 37) (z_canS (pc := 37) (As := [zI a2, zI (0 : Int32), zI (9 : Int32)]) (st := []) x (m_X6_isIn hl a2 (0 : Int32) (9 : Int32)) q2895 q2896 q121 q2897 n_X6_isIn ⟨by decide, by decide⟩ (Nat.le_of_ble_eq_true rfl) dX6_isFact_37) (zv_I fun v37 => ?_) (fun q => zx_thr x (fun z hz => (htab z hz).elim) q)
      refine z_if_eq (pc := 40) (tgt := 55) x dX6_isFact_40 rfl (fun _ => ?_) (fun _ => ?_)
      · refine z_iconst (pc := 55) x (v := (0 : Int32)) dX6_isFact_55 rfl ?_
        exact z_zret (pc := 56) x hret dX6_isFact_56
      · refine z_goto (pc := 43) (tgt := 51) x dX6_isFact_43 rfl ?_
        refine z_iconst (pc := 51) x (v := (1 : Int32)) dX6_isFact_51 rfl ?_
        refine z_goto (pc := 52) (tgt := 56) x dX6_isFact_52 rfl ?_
        exact z_zret (pc := 56) x hret dX6_isFact_56
def s_X6_isFact_21 (E : zE) (a0 : Int32) (a2 : Int32) : zM := s_X6_isFact_22 E a0 a2 (0 : Int32)
theorem w_X6_isFact_21 (x : zCx p l R s m args meth c E D tA cX6_isFact 4 yX6_isFact.cls 11) (hl : l.stackTraces = false) (hret : meth.sig.returnType = (Option.some Jvm.ClassFile.FieldType.boolean)) (hnm : meth.name = yX6_isFact.name) (htab : ∀ z ∈ c.exceptionTable.toList, False) (a0 : Int32) (a2 : Int32) : zW p l e R s m args below meth c E D tA 4 k0 (s_X6_isFact_21 E a0 a2) [(0, zI a0), (2, zI a2)] 21 [] := by
  unfold s_X6_isFact_21
  refine z_iconst (pc := 21) x (v := (0 : Int32)) dX6_isFact_21 rfl ?_
  exact z_sub [0, 1] rfl (w_X6_isFact_22 x hl hret hnm htab a0 a2 (0 : Int32))
def s_X6_isFact (E : zE) (a0 : Int32) (a1 : Int32) (a2 : Int32) : zM := zC (s_X6_isPredicate E a0) zThr (zKI (fun v1 => if v1 = 0 then (s_X6_isFact_21 E a0 a2) else (zC (s_X6_isIn E a1 (0 : Int32) (9 : Int32)) zThr (zKI (fun v11 => if v11 = 0 then (s_X6_isFact_21 E a0 a2) else (s_X6_isFact_22 E a0 a2 (1 : Int32)))))))
theorem m_X6_isFact {l : Launch} {E : zE} {D : va_G} {tA : Nat → ClassId} (hl : l.stackTraces = false) (a0 : Int32) (a1 : Int32) (a2 : Int32) : zMet l E D tA yX6_isFact (ws_ yX6_isFact cX6_isFact 4 (Option.some Jvm.ClassFile.FieldType.boolean)) 11 (s_X6_isFact E a0 a1 a2) [zI a0, zI a1, zI a2] := by
  refine z_met hl (by decide +kernel) (by rw [zSl_len]; exact (Nat.le_of_ble_eq_true rfl)) fun p e R s m args below meth c k0 x hret hnm htab => ?_
  refine z_lv [(0, zI a0), (1, zI a1), (2, zI a2)] rfl ?_
  unfold s_X6_isFact
  refine z_iload_n (pc := 0) x 0 dX6_isFact_0 rfl rfl ?_
  refine z_call (pc := 1) (z_canS (pc := 1) (As := [zI a0]) (st := []) x (m_X6_isPredicate hl a0) q2892 q2893 q121 q2894 n_X6_isPredicate ⟨by decide, by decide⟩ (Nat.le_of_ble_eq_true rfl) dX6_isFact_1) (zv_I fun v1 => ?_) (fun q => zx_thr x (fun z hz => (htab z hz).elim) q)
  refine z_if_eq (pc := 4) (tgt := 21) x dX6_isFact_4 rfl (fun _ => ?_) (fun _ => ?_)
  · exact z_sub [0, 2] rfl (w_X6_isFact_21 x hl hret hnm htab a0 a2)
  · refine z_iload_n (pc := 7) x 1 dX6_isFact_7 rfl rfl ?_
    refine z_iconst (pc := 8) x (v := (0 : Int32)) dX6_isFact_8 rfl ?_
    refine z_bipush (pc := 9) x (v := (9 : Int32)) dX6_isFact_9 rfl ?_
    refine z_call (pc := 11) (z_canS (pc := 11) (As := [zI a1, zI (0 : Int32), zI (9 : Int32)]) (st := []) x (m_X6_isIn hl a1 (0 : Int32) (9 : Int32)) q2895 q2896 q121 q2897 n_X6_isIn ⟨by decide, by decide⟩ (Nat.le_of_ble_eq_true rfl) dX6_isFact_11) (zv_I fun v11 => ?_) (fun q => zx_thr x (fun z hz => (htab z hz).elim) q)
    refine z_if_eq (pc := 14) (tgt := 21) x dX6_isFact_14 rfl (fun _ => ?_) (fun _ => ?_)
    · exact z_sub [0, 2] rfl (w_X6_isFact_21 x hl hret hnm htab a0 a2)
    · refine z_iconst (pc := 17) x (v := (1 : Int32)) dX6_isFact_17 rfl ?_
      refine z_goto (pc := 18) (tgt := 22) x dX6_isFact_18 rfl ?_
      exact z_sub [0, 2] rfl (w_X6_isFact_22 x hl hret hnm htab a0 a2 (1 : Int32))
/-! X6_isThrown -/
def s_X6_isThrown_10 (E : zE) (a1 : Int32) (b0 : Option Nat) (b1 : Int32) : zM := zSet E b0 34 13 (zVal (zI b1)) (zRetN .boolean a1)
theorem w_X6_isThrown_10 (x : zCx p l R s m args meth c E D tA cX6_isThrown 3 yX6_isThrown.cls 9) (hl : l.stackTraces = false) (hret : meth.sig.returnType = (Option.some Jvm.ClassFile.FieldType.boolean)) (hnm : meth.name = yX6_isThrown.name) (htab : ∀ z ∈ c.exceptionTable.toList, False) (a1 : Int32) (b0 : Option Nat) (b1 : Int32) : zW p l e R s m args below meth c E D tA 3 k0 (s_X6_isThrown_10 E a1 b0 b1) [(1, zI a1)] 10 [zI b1, zP b0] := by
  unfold s_X6_isThrown_10
  refine z_set (pc := 10) (v := zI b1) x in_X6 tyX6 tyX6_ok nmX6 (ci := 34) rfl (k := 13) (by decide) q2798 (fun _ h => h) rfl rfl rfl dX6_isThrown_10 ?_
  refine z_iload_n (pc := 13) x 0 dX6_isThrown_13 rfl rfl ?_
  exact z_zret (pc := 14) x hret dX6_isThrown_14
def s_X6_isThrown (E : zE) (a0 : Option Nat) (a1 : Int32) (a2 : Int32) : zM := if a1 = 0 then (s_X6_isThrown_10 E a1 a0 (0 : Int32)) else (s_X6_isThrown_10 E a1 a0 a2)
theorem m_X6_isThrown {l : Launch} {E : zE} {D : va_G} {tA : Nat → ClassId} (hl : l.stackTraces = false) (a0 : Option Nat) (a1 : Int32) (a2 : Int32) : zMet l E D tA yX6_isThrown (ws_ yX6_isThrown cX6_isThrown 3 (Option.some Jvm.ClassFile.FieldType.boolean)) 9 (s_X6_isThrown E a0 a1 a2) [zP a0, zI a1, zI a2] := by
  refine z_met hl (by decide +kernel) (by rw [zSl_len]; exact (Nat.le_of_ble_eq_true rfl)) fun p e R s m args below meth c k0 x hret hnm htab => ?_
  refine z_lv [(0, zP a0), (1, zI a1), (2, zI a2)] rfl ?_
  unfold s_X6_isThrown
  refine z_aload_n (pc := 0) x 0 dX6_isThrown_0 rfl rfl ?_
  refine z_iload_n (pc := 1) x 1 dX6_isThrown_1 rfl rfl ?_
  refine z_if_eq (pc := 2) (tgt := 9) x dX6_isThrown_2 rfl (fun _ => ?_) (fun _ => ?_)
  · refine z_iconst (pc := 9) x (v := (0 : Int32)) dX6_isThrown_9 rfl ?_
    exact z_sub [1] rfl (w_X6_isThrown_10 x hl hret hnm htab a1 a0 (0 : Int32))
  · refine z_iload_n (pc := 5) x 2 dX6_isThrown_5 rfl rfl ?_
    refine z_goto (pc := 6) (tgt := 10) x dX6_isThrown_6 rfl ?_
    exact z_sub [1] rfl (w_X6_isThrown_10 x hl hret hnm htab a1 a0 a2)
/-! X6_isPair -/
def s_X6_isPair (E : zE) (a0 : Int32) : zM := if (4 : Int32) ≤ a0 then (zRetN .boolean (0 : Int32)) else (zRetN .boolean (1 : Int32))
theorem m_X6_isPair {l : Launch} {E : zE} {D : va_G} {tA : Nat → ClassId} (hl : l.stackTraces = false) (a0 : Int32) : zMet l E D tA yX6_isPair (ws_ yX6_isPair cX6_isPair 1 (Option.some Jvm.ClassFile.FieldType.boolean)) 9 (s_X6_isPair E a0) [zI a0] := by
  refine z_met hl (by decide +kernel) (by rw [zSl_len]; exact (Nat.le_of_ble_eq_true rfl)) fun p e R s m args below meth c k0 x hret hnm htab => ?_
  refine z_lv [(0, zI a0)] rfl ?_
  unfold s_X6_isPair
  refine z_iload_n (pc := 0) x 0 dX6_isPair_0 rfl rfl ?_
  refine z_iconst (pc := 1) x (v := (4 : Int32)) dX6_isPair_1 rfl ?_
  refine z_icmp_ge (pc := 2) (tgt := 9) x dX6_isPair_2 rfl (fun _ => ?_) (fun _ => ?_)
  · refine z_iconst (pc := 9) x (v := (0 : Int32)) dX6_isPair_9 rfl ?_
    exact z_zret (pc := 10) x hret dX6_isPair_10
  · refine z_iconst (pc := 5) x (v := (1 : Int32)) dX6_isPair_5 rfl ?_
    refine z_goto (pc := 6) (tgt := 10) x dX6_isPair_6 rfl ?_
    exact z_zret (pc := 10) x hret dX6_isPair_10
/-! X6_fact -/
def s_X6_fact (E : zE) (a0 : Int32) (a1 : Int32) (a2 : Int32) : zM := zC (s_X6_isPair E a0) zThr (zKI (fun v1 => if v1 = 0 then (zRet (some (.int (((400 : Int32) + ((10 : Int32) * (a0 - (4 : Int32)))) + a1)))) else (zRet (some (.int ((((100 : Int32) * a0) + ((10 : Int32) * a1)) + a2))))))
theorem m_X6_fact {l : Launch} {E : zE} {D : va_G} {tA : Nat → ClassId} (hl : l.stackTraces = false) (a0 : Int32) (a1 : Int32) (a2 : Int32) : zMet l E D tA yX6_fact (ws_ yX6_fact cX6_fact 3 (Option.some Jvm.ClassFile.FieldType.int)) 10 (s_X6_fact E a0 a1 a2) [zI a0, zI a1, zI a2] := by
  refine z_met hl (by decide +kernel) (by rw [zSl_len]; exact (Nat.le_of_ble_eq_true rfl)) fun p e R s m args below meth c k0 x hret hnm htab => ?_
  refine z_lv [(0, zI a0), (1, zI a1), (2, zI a2)] rfl ?_
  unfold s_X6_fact
  refine z_iload_n (pc := 0) x 0 dX6_fact_0 rfl rfl ?_
  refine z_call (pc := 1) (z_canS (pc := 1) (As := [zI a0]) (st := []) x (m_X6_isPair hl a0) q2908 q2909 q121 q2910 n_X6_isPair ⟨by decide, by decide⟩ (Nat.le_of_ble_eq_true rfl) dX6_fact_1) (zv_I fun v1 => ?_) (fun q => zx_thr x (fun z hz => (htab z hz).elim) q)
  refine z_if_eq (pc := 4) (tgt := 21) x dX6_fact_4 rfl (fun _ => ?_) (fun _ => ?_)
  · refine z_sipush (pc := 21) x (v := (400 : Int32)) dX6_fact_21 rfl ?_
    refine z_bipush (pc := 24) x (v := (10 : Int32)) dX6_fact_24 rfl ?_
    refine z_iload_n (pc := 26) x 0 dX6_fact_26 rfl rfl ?_
    refine z_iconst (pc := 27) x (v := (4 : Int32)) dX6_fact_27 rfl ?_
    refine z_isub (pc := 28) x dX6_fact_28 ?_
    refine z_imul (pc := 29) x dX6_fact_29 ?_
    refine z_iadd (pc := 30) x dX6_fact_30 ?_
    refine z_iload_n (pc := 31) x 1 dX6_fact_31 rfl rfl ?_
    refine z_iadd (pc := 32) x dX6_fact_32 ?_
    exact z_iret (pc := 33) x hret dX6_fact_33
  · refine z_bipush (pc := 7) x (v := (100 : Int32)) dX6_fact_7 rfl ?_
    refine z_iload_n (pc := 9) x 0 dX6_fact_9 rfl rfl ?_
    refine z_imul (pc := 10) x dX6_fact_10 ?_
    refine z_bipush (pc := 11) x (v := (10 : Int32)) dX6_fact_11 rfl ?_
    refine z_iload_n (pc := 13) x 1 dX6_fact_13 rfl rfl ?_
    refine z_imul (pc := 14) x dX6_fact_14 ?_
    refine z_iadd (pc := 15) x dX6_fact_15 ?_
    refine z_iload_n (pc := 16) x 2 dX6_fact_16 rfl rfl ?_
    refine z_iadd (pc := 17) x dX6_fact_17 ?_
    refine z_goto (pc := 18) (tgt := 33) x dX6_fact_18 rfl ?_
    exact z_iret (pc := 33) x hret dX6_fact_33
/-! X6_factOf -/
def s_X6_factOf (E : zE) (a0 : Int32) (a1 : Int32) (a2 : Int32) : zM := zC (s_X6_fact E (a0 - (97 : Int32)) a1 a2) zThr (zKI (fun v6 => zRet (some (.int v6))))
theorem m_X6_factOf {l : Launch} {E : zE} {D : va_G} {tA : Nat → ClassId} (hl : l.stackTraces = false) (a0 : Int32) (a1 : Int32) (a2 : Int32) : zMet l E D tA yX6_factOf (ws_ yX6_factOf cX6_factOf 3 (Option.some Jvm.ClassFile.FieldType.int)) 11 (s_X6_factOf E a0 a1 a2) [zI a0, zI a1, zI a2] := by
  refine z_met hl (by decide +kernel) (by rw [zSl_len]; exact (Nat.le_of_ble_eq_true rfl)) fun p e R s m args below meth c k0 x hret hnm htab => ?_
  refine z_lv [(0, zI a0), (1, zI a1), (2, zI a2)] rfl ?_
  unfold s_X6_factOf
  refine z_iload_n (pc := 0) x 0 dX6_factOf_0 rfl rfl ?_
  refine z_bipush (pc := 1) x (v := (97 : Int32)) dX6_factOf_1 rfl ?_
  refine z_isub (pc := 3) x dX6_factOf_3 ?_
  refine z_iload_n (pc := 4) x 1 dX6_factOf_4 rfl rfl ?_
  refine z_iload_n (pc := 5) x 2 dX6_factOf_5 rfl rfl ?_
  refine z_call (pc := 6) (z_canS (pc := 6) (As := [zI (a0 - (97 : Int32)), zI a1, zI a2]) (st := []) x (m_X6_fact hl (a0 - (97 : Int32)) a1 a2) q2905 q2906 q121 q2907 n_X6_fact ⟨by decide, by decide⟩ (Nat.le_of_ble_eq_true rfl) dX6_factOf_6) (zv_I fun v6 => ?_) (fun q => zx_thr x (fun z hz => (htab z hz).elim) q)
  exact z_iret (pc := 9) x hret dX6_factOf_9
/-! X6_adds -/
def s_X6_adds_75 (E : zE) (a0 : Option Nat) (a4 : Int32) (b0 : Option Nat) (b1 : Int32) : zM := zC (zRv b0 [(34, fun b => s_X6_isThrown E (some b) b1 (3 : Int32))]) zThr (zKI (fun v76 => if v76 = 0 then (zGetR a0 34 0 (fun v85 => zSaI E 0 v85 a4 (1 : Int32) (zGetR a0 34 0 (fun v93 => zGaI 0 v93 (0 : Int32) (fun v98 => zSaI E 0 v93 (0 : Int32) (v98 + (1 : Int32)) (zGetR a0 34 0 (fun v103 => zGaI 0 v103 (1 : Int32) (fun v108 => zSaI E 0 v103 (1 : Int32) (v108 + (1 : Int32)) (zGetR a0 34 0 (fun v113 => zGaI 0 v113 (0 : Int32) (fun v117 => zRet (some (.int v117))))))))))))) else (zRet (some (.int (0 : Int32))))))
theorem w_X6_adds_75 (x : zCx p l R s m args meth c E D tA cX6_adds 5 yX6_adds.cls 12) (hl : l.stackTraces = false) (hret : meth.sig.returnType = (Option.some Jvm.ClassFile.FieldType.int)) (hnm : meth.name = yX6_adds.name) (htab : ∀ z ∈ c.exceptionTable.toList, False) (a0 : Option Nat) (a4 : Int32) (b0 : Option Nat) (b1 : Int32) : zW p l e R s m args below meth c E D tA 5 k0 (s_X6_adds_75 E a0 a4 b0 b1) [(0, zP a0), (4, zI a4)] 75 [zI b1, zP b0] := by
  unfold s_X6_adds_75
  refine z_iconst (pc := 75) x (v := (3 : Int32)) dX6_adds_75 rfl ?_
  refine z_call (pc := 76) (z_canV (pc := 76) (As := [zI b1, zI (3 : Int32)]) (st := []) x (ci := 34) rfl (fun b => m_X6_isThrown hl (some b) b1 (3 : Int32)) q2898 q2900 (z_selP x (ci := 34) rfl (by decide) (zNi_inst x q2780) q2899 q2900) q121 q2901 n_X6_isThrown ⟨by decide, by decide⟩ (Nat.le_of_ble_eq_true rfl) dX6_adds_76) (zv_I fun v76 => ?_) (fun q => zx_thr x (fun z hz => (htab z hz).elim) q)
  refine z_if_eq (pc := 79) (tgt := 84) x dX6_adds_79 rfl (fun _ => ?_) (fun _ => ?_)
  · refine z_aload_n (pc := 84) x 0 dX6_adds_84 rfl rfl ?_
    refine z_get (pc := 85) (fun _ _ h => zAsR_eq h) x in_X6 (ci := 34) rfl (k := 0) (by decide) q2785 (fun _ h => h) dX6_adds_85 fun v85 => ?_
    refine z_iload (pc := 88) x 1 dX6_adds_88 rfl ?_
    refine z_iconst (pc := 90) x (v := (1 : Int32)) dX6_adds_90 rfl ?_
    refine z_iast (pc := 91) x (t := 0) rfl dX6_adds_91 ?_
    refine z_aload_n (pc := 92) x 0 dX6_adds_92 rfl rfl ?_
    refine z_get (pc := 93) (fun _ _ h => zAsR_eq h) x in_X6 (ci := 34) rfl (k := 0) (by decide) q2785 (fun _ h => h) dX6_adds_93 fun v93 => ?_
    refine z_iconst (pc := 96) x (v := (0 : Int32)) dX6_adds_96 rfl ?_
    refine z_dup2 (pc := 97) x dX6_adds_97 rfl rfl ?_
    refine z_iald (pc := 98) x (t := 0) rfl dX6_adds_98 fun v98 => ?_
    refine z_iconst (pc := 99) x (v := (1 : Int32)) dX6_adds_99 rfl ?_
    refine z_iadd (pc := 100) x dX6_adds_100 ?_
    refine z_iast (pc := 101) x (t := 0) rfl dX6_adds_101 ?_
    refine z_aload_n (pc := 102) x 0 dX6_adds_102 rfl rfl ?_
    refine z_get (pc := 103) (fun _ _ h => zAsR_eq h) x in_X6 (ci := 34) rfl (k := 0) (by decide) q2785 (fun _ h => h) dX6_adds_103 fun v103 => ?_
    refine z_iconst (pc := 106) x (v := (1 : Int32)) dX6_adds_106 rfl ?_
    refine z_dup2 (pc := 107) x dX6_adds_107 rfl rfl ?_
    refine z_iald (pc := 108) x (t := 0) rfl dX6_adds_108 fun v108 => ?_
    refine z_iconst (pc := 109) x (v := (1 : Int32)) dX6_adds_109 rfl ?_
    refine z_iadd (pc := 110) x dX6_adds_110 ?_
    refine z_iast (pc := 111) x (t := 0) rfl dX6_adds_111 ?_
    refine z_aload_n (pc := 112) x 0 dX6_adds_112 rfl rfl ?_
    refine z_get (pc := 113) (fun _ _ h => zAsR_eq h) x in_X6 (ci := 34) rfl (k := 0) (by decide) q2785 (fun _ h => h) dX6_adds_113 fun v113 => ?_
    refine z_iconst (pc := 116) x (v := (0 : Int32)) dX6_adds_116 rfl ?_
    refine z_iald (pc := 117) x (t := 0) rfl dX6_adds_117 fun v117 => ?_
    exact z_iret (pc := 118) x hret dX6_adds_118
  · refine z_iconst (pc := 82) x (v := (0 : Int32)) dX6_adds_82 rfl ?_
    exact z_iret (pc := 83) x hret dX6_adds_83
def s_X6_adds_51 (E : zE) (a0 : Option Nat) (a4 : Int32) (b0 : Option Nat) (b1 : Int32) : zM := zC (zRv b0 [(34, fun b => s_X6_isThrown E (some b) b1 (2 : Int32))]) zThr (zKI (fun v52 => if v52 = 0 then (zGetR a0 34 0 (fun v60 => zGaI 0 v60 (0 : Int32) (fun v64 => if v64 = (20 : Int32) then (s_X6_adds_75 E a0 a4 a0 (1 : Int32)) else (s_X6_adds_75 E a0 a4 a0 (0 : Int32))))) else (zRet (some (.int (0 : Int32))))))
theorem w_X6_adds_51 (x : zCx p l R s m args meth c E D tA cX6_adds 5 yX6_adds.cls 12) (hl : l.stackTraces = false) (hret : meth.sig.returnType = (Option.some Jvm.ClassFile.FieldType.int)) (hnm : meth.name = yX6_adds.name) (htab : ∀ z ∈ c.exceptionTable.toList, False) (a0 : Option Nat) (a4 : Int32) (b0 : Option Nat) (b1 : Int32) : zW p l e R s m args below meth c E D tA 5 k0 (s_X6_adds_51 E a0 a4 b0 b1) [(0, zP a0), (4, zI a4)] 51 [zI b1, zP b0] := by
  unfold s_X6_adds_51
  refine z_iconst (pc := 51) x (v := (2 : Int32)) dX6_adds_51 rfl ?_
  refine z_call (pc := 52) (z_canV (pc := 52) (As := [zI b1, zI (2 : Int32)]) (st := []) x (ci := 34) rfl (fun b => m_X6_isThrown hl (some b) b1 (2 : Int32)) q2898 q2900 (z_selP x (ci := 34) rfl (by decide) (zNi_inst x q2780) q2899 q2900) q121 q2901 n_X6_isThrown ⟨by decide, by decide⟩ (Nat.le_of_ble_eq_true rfl) dX6_adds_52) (zv_I fun v52 => ?_) (fun q => zx_thr x (fun z hz => (htab z hz).elim) q)
  refine z_if_ne (pc := 55) (tgt := 82) x dX6_adds_55 rfl (fun _ => ?_) (fun _ => ?_)
  · refine z_aload_n (pc := 58) x 0 dX6_adds_58 rfl rfl ?_
    refine z_aload_n (pc := 59) x 0 dX6_adds_59 rfl rfl ?_
    refine z_get (pc := 60) (fun _ _ h => zAsR_eq h) x in_X6 (ci := 34) rfl (k := 0) (by decide) q2785 (fun _ h => h) dX6_adds_60 fun v60 => ?_
    refine z_iconst (pc := 63) x (v := (0 : Int32)) dX6_adds_63 rfl ?_
    refine z_iald (pc := 64) x (t := 0) rfl dX6_adds_64 fun v64 => ?_
    refine z_bipush (pc := 65) x (v := (20 : Int32)) dX6_adds_65 rfl ?_
    refine z_icmp_ne (pc := 67) (tgt := 74) x dX6_adds_67 rfl (fun _ => ?_) (fun _ => ?_)
    · refine z_iconst (pc := 70) x (v := (1 : Int32)) dX6_adds_70 rfl ?_
      refine z_goto (pc := 71) (tgt := 75) x dX6_adds_71 rfl ?_
      exact z_sub [0, 1] rfl (w_X6_adds_75 x hl hret hnm htab a0 a4 a0 (1 : Int32))
    · refine z_iconst (pc := 74) x (v := (0 : Int32)) dX6_adds_74 rfl ?_
      exact z_sub [0, 1] rfl (w_X6_adds_75 x hl hret hnm htab a0 a4 a0 (0 : Int32))
  · refine z_iconst (pc := 82) x (v := (0 : Int32)) dX6_adds_82 rfl ?_
    exact z_iret (pc := 83) x hret dX6_adds_83
def s_X6_adds_15 (E : zE) (a0 : Option Nat) (a1 : Int32) (a2 : Int32) (a3 : Int32) (b0 : Option Nat) (b1 : Int32) : zM := zC (zRv b0 [(34, fun b => s_X6_isThrown E (some b) b1 (1 : Int32))]) zThr (zKI (fun v16 => if v16 = 0 then (zC (s_X6_factOf E a1 a2 a3) zThr (zKI (fun v28 => zGetR a0 34 0 (fun v36 => zGaI 0 v36 ((4 : Int32) + v28) (fun v41 => if v41 = (1 : Int32) then (s_X6_adds_51 E a0 ((4 : Int32) + v28) a0 (1 : Int32)) else (s_X6_adds_51 E a0 ((4 : Int32) + v28) a0 (0 : Int32))))))) else (zRet (some (.int (0 : Int32))))))
theorem w_X6_adds_15 (x : zCx p l R s m args meth c E D tA cX6_adds 5 yX6_adds.cls 12) (hl : l.stackTraces = false) (hret : meth.sig.returnType = (Option.some Jvm.ClassFile.FieldType.int)) (hnm : meth.name = yX6_adds.name) (htab : ∀ z ∈ c.exceptionTable.toList, False) (a0 : Option Nat) (a1 : Int32) (a2 : Int32) (a3 : Int32) (b0 : Option Nat) (b1 : Int32) : zW p l e R s m args below meth c E D tA 5 k0 (s_X6_adds_15 E a0 a1 a2 a3 b0 b1) [(0, zP a0), (1, zI a1), (2, zI a2), (3, zI a3)] 15 [zI b1, zP b0] := by
  unfold s_X6_adds_15
  refine z_iconst (pc := 15) x (v := (1 : Int32)) dX6_adds_15 rfl ?_
  refine z_call (pc := 16) (z_canV (pc := 16) (As := [zI b1, zI (1 : Int32)]) (st := []) x (ci := 34) rfl (fun b => m_X6_isThrown hl (some b) b1 (1 : Int32)) q2898 q2900 (z_selP x (ci := 34) rfl (by decide) (zNi_inst x q2780) q2899 q2900) q121 q2901 n_X6_isThrown ⟨by decide, by decide⟩ (Nat.le_of_ble_eq_true rfl) dX6_adds_16) (zv_I fun v16 => ?_) (fun q => zx_thr x (fun z hz => (htab z hz).elim) q)
  refine z_if_eq (pc := 19) (tgt := 24) x dX6_adds_19 rfl (fun _ => ?_) (fun _ => ?_)
  · refine z_iconst (pc := 24) x (v := (4 : Int32)) dX6_adds_24 rfl ?_
    refine z_iload_n (pc := 25) x 1 dX6_adds_25 rfl rfl ?_
    refine z_iload_n (pc := 26) x 2 dX6_adds_26 rfl rfl ?_
    refine z_iload_n (pc := 27) x 3 dX6_adds_27 rfl rfl ?_
    refine z_call (pc := 28) (z_canS (pc := 28) (As := [zI a1, zI a2, zI a3]) (st := [zI (4 : Int32)]) x (m_X6_factOf hl a1 a2 a3) q2902 q2903 q121 q2904 n_X6_factOf ⟨by decide, by decide⟩ (Nat.le_of_ble_eq_true rfl) dX6_adds_28) (zv_I fun v28 => ?_) (fun q => zx_thr x (fun z hz => (htab z hz).elim) q)
    refine z_iadd (pc := 31) x dX6_adds_31 ?_
    refine z_istore (pc := 32) (lv' := [(4, zI ((4 : Int32) + v28)), (0, zP a0), (1, zI a1), (2, zI a2), (3, zI a3)]) x dX6_adds_32 (Nat.le_of_ble_eq_true rfl) rfl ?_
    refine z_aload_n (pc := 34) x 1 dX6_adds_34 rfl rfl ?_
    refine z_aload_n (pc := 35) x 1 dX6_adds_35 rfl rfl ?_
    refine z_get (pc := 36) (fun _ _ h => zAsR_eq h) x in_X6 (ci := 34) rfl (k := 0) (by decide) q2785 (fun _ h => h) dX6_adds_36 fun v36 => ?_
    refine z_iload (pc := 39) x 0 dX6_adds_39 rfl ?_
    refine z_iald (pc := 41) x (t := 0) rfl dX6_adds_41 fun v41 => ?_
    refine z_iconst (pc := 42) x (v := (1 : Int32)) dX6_adds_42 rfl ?_
    refine z_icmp_ne (pc := 43) (tgt := 50) x dX6_adds_43 rfl (fun _ => ?_) (fun _ => ?_)
    · refine z_iconst (pc := 46) x (v := (1 : Int32)) dX6_adds_46 rfl ?_
      refine z_goto (pc := 47) (tgt := 51) x dX6_adds_47 rfl ?_
      exact z_sub [1, 0] rfl (w_X6_adds_51 x hl hret hnm htab a0 ((4 : Int32) + v28) a0 (1 : Int32))
    · refine z_iconst (pc := 50) x (v := (0 : Int32)) dX6_adds_50 rfl ?_
      exact z_sub [1, 0] rfl (w_X6_adds_51 x hl hret hnm htab a0 ((4 : Int32) + v28) a0 (0 : Int32))
  · refine z_iconst (pc := 22) x (v := (0 : Int32)) dX6_adds_22 rfl ?_
    exact z_iret (pc := 23) x hret dX6_adds_23
def s_X6_adds (E : zE) (a0 : Option Nat) (a1 : Int32) (a2 : Int32) (a3 : Int32) : zM := zC (s_X6_isFact E a1 a2 a3) zThr (zKI (fun v4 => if v4 = 0 then (s_X6_adds_15 E a0 a1 a2 a3 a0 (1 : Int32)) else (s_X6_adds_15 E a0 a1 a2 a3 a0 (0 : Int32))))
theorem m_X6_adds {l : Launch} {E : zE} {D : va_G} {tA : Nat → ClassId} (hl : l.stackTraces = false) (a0 : Option Nat) (a1 : Int32) (a2 : Int32) (a3 : Int32) : zMet l E D tA yX6_adds (ws_ yX6_adds cX6_adds 5 (Option.some Jvm.ClassFile.FieldType.int)) 12 (s_X6_adds E a0 a1 a2 a3) [zP a0, zI a1, zI a2, zI a3] := by
  refine z_met hl (by decide +kernel) (by rw [zSl_len]; exact (Nat.le_of_ble_eq_true rfl)) fun p e R s m args below meth c k0 x hret hnm htab => ?_
  refine z_lv [(0, zP a0), (1, zI a1), (2, zI a2), (3, zI a3)] rfl ?_
  unfold s_X6_adds
  refine z_aload_n (pc := 0) x 0 dX6_adds_0 rfl rfl ?_
  refine z_iload_n (pc := 1) x 1 dX6_adds_1 rfl rfl ?_
  refine z_iload_n (pc := 2) x 2 dX6_adds_2 rfl rfl ?_
  refine z_iload_n (pc := 3) x 3 dX6_adds_3 rfl rfl ?_
  refine z_call (pc := 4) (z_canS (pc := 4) (As := [zI a1, zI a2, zI a3]) (st := [zP a0]) x (m_X6_isFact hl a1 a2 a3) q2889 q2890 q121 q2891 n_X6_isFact ⟨by decide, by decide⟩ (Nat.le_of_ble_eq_true rfl) dX6_adds_4) (zv_I fun v4 => ?_) (fun q => zx_thr x (fun z hz => (htab z hz).elim) q)
  refine z_if_ne (pc := 7) (tgt := 14) x dX6_adds_7 rfl (fun _ => ?_) (fun _ => ?_)
  · refine z_iconst (pc := 10) x (v := (1 : Int32)) dX6_adds_10 rfl ?_
    refine z_goto (pc := 11) (tgt := 15) x dX6_adds_11 rfl ?_
    exact z_sub [0, 1, 2, 3] rfl (w_X6_adds_15 x hl hret hnm htab a0 a1 a2 a3 a0 (1 : Int32))
  · refine z_iconst (pc := 14) x (v := (0 : Int32)) dX6_adds_14 rfl ?_
    exact z_sub [0, 1, 2, 3] rfl (w_X6_adds_15 x hl hret hnm htab a0 a1 a2 a3 a0 (0 : Int32))
/-! X6_ends -/
def s_X6_ends_70 (E : zE) (a0 : Option Nat) (a1 : Int32) : zM := zGetR a0 34 1 (fun v71 => zGetR a0 34 3 (fun v76 => zGetI a0 34 12 (fun v83 => zC (s_X6_copies E v71 (0 : Int32) v76 ((1128 : Int32) * v83)) zThr (zKV (zGetI a0 34 12 (fun v92 => zSet E a0 34 12 (zVal (zI (v92 + (1 : Int32)))) (zRet (some (.int a1)))))))))
theorem w_X6_ends_70 (x : zCx p l R s m args meth c E D tA cX6_ends 3 yX6_ends.cls 10) (hl : l.stackTraces = false) (hret : meth.sig.returnType = (Option.some Jvm.ClassFile.FieldType.int)) (hnm : meth.name = yX6_ends.name) (htab : ∀ z ∈ c.exceptionTable.toList, False) (a0 : Option Nat) (a1 : Int32) : zW p l e R s m args below meth c E D tA 3 k0 (s_X6_ends_70 E a0 a1) [(0, zP a0), (1, zI a1)] 70 [] := by
  unfold s_X6_ends_70
  refine z_aload_n (pc := 70) x 0 dX6_ends_70 rfl rfl ?_
  refine z_get (pc := 71) (fun _ _ h => zAsR_eq h) x in_X6 (ci := 34) rfl (k := 1) (by decide) q2786 (fun _ h => h) dX6_ends_71 fun v71 => ?_
  refine z_iconst (pc := 74) x (v := (0 : Int32)) dX6_ends_74 rfl ?_
  refine z_aload_n (pc := 75) x 0 dX6_ends_75 rfl rfl ?_
  refine z_get (pc := 76) (fun _ _ h => zAsR_eq h) x in_X6 (ci := 34) rfl (k := 3) (by decide) q2788 (fun _ h => h) dX6_ends_76 fun v76 => ?_
  refine z_sipush (pc := 79) x (v := (1128 : Int32)) dX6_ends_79 rfl ?_
  refine z_aload_n (pc := 82) x 0 dX6_ends_82 rfl rfl ?_
  refine z_get (pc := 83) (fun _ _ h => zAsI_eq h) x in_X6 (ci := 34) rfl (k := 12) (by decide) q2797 (fun _ h => h) dX6_ends_83 fun v83 => ?_
  refine z_imul (pc := 86) x dX6_ends_86 ?_
  refine z_call (pc := 87) (z_canS (pc := 87) (As := [zP v71, zI (0 : Int32), zP v76, zI ((1128 : Int32) * v83)]) (st := []) x (m_X6_copies hl v71 (0 : Int32) v76 ((1128 : Int32) * v83)) q2882 q2883 q121 q2884 n_X6_copies ⟨by decide, by decide⟩ (Nat.le_of_ble_eq_true rfl) dX6_ends_87) (zv_V ?_) (fun q => zx_thr x (fun z hz => (htab z hz).elim) q)
  refine z_aload_n (pc := 90) x 0 dX6_ends_90 rfl rfl ?_
  refine z_dup (pc := 91) x dX6_ends_91 rfl ?_
  refine z_get (pc := 92) (fun _ _ h => zAsI_eq h) x in_X6 (ci := 34) rfl (k := 12) (by decide) q2797 (fun _ h => h) dX6_ends_92 fun v92 => ?_
  refine z_iconst (pc := 95) x (v := (1 : Int32)) dX6_ends_95 rfl ?_
  refine z_iadd (pc := 96) x dX6_ends_96 ?_
  refine z_set (pc := 97) (v := zI (v92 + (1 : Int32))) x in_X6 tyX6 tyX6_ok nmX6 (ci := 34) rfl (k := 12) (by decide) q2797 (fun _ h => h) rfl rfl rfl dX6_ends_97 ?_
  refine z_iload_n (pc := 100) x 1 dX6_ends_100 rfl rfl ?_
  exact z_iret (pc := 101) x hret dX6_ends_101
def s_X6_ends_25 (E : zE) : Nat → Option Nat → Int32 → Int32 → zM
  | 0, _, _, _ => zFail
  | n + 1, a0, a1, a2 => if (8 : Int32) ≤ a2 then (zGetI a0 34 12 (fun v62 => zSet E a0 34 12 (zVal (zI (v62 - (1 : Int32)))) (s_X6_ends_70 E a0 a1))) else (zGetR a0 34 3 (fun v32 => zGetR a0 34 3 (fun v41 => zC (s_X6_copies E v32 ((1128 : Int32) * a2) v41 ((1128 : Int32) * (a2 - (1 : Int32)))) zThr (zKV ((s_X6_ends_25 E n) a0 a1 (a2 + (1 : Int32)))))))
theorem w_X6_ends_25 (x : zCx p l R s m args meth c E D tA cX6_ends 3 yX6_ends.cls 10) (hl : l.stackTraces = false) (hret : meth.sig.returnType = (Option.some Jvm.ClassFile.FieldType.int)) (hnm : meth.name = yX6_ends.name) (htab : ∀ z ∈ c.exceptionTable.toList, False) : ∀ (n : Nat) (a0 : Option Nat) (a1 : Int32) (a2 : Int32), zW p l e R s m args below meth c E D tA 3 k0 (s_X6_ends_25 E n a0 a1 a2) [(0, zP a0), (1, zI a1), (2, zI a2)] 25 [] := by
  intro n
  induction n with
  | zero => intro a0 a1 a2; exact z_fail
  | succ n h25 =>
    intro a0 a1 a2
    rw [s_X6_ends_25]
    refine z_iload_n (pc := 25) x 2 dX6_ends_25 rfl rfl ?_
    refine z_bipush (pc := 26) x (v := (8 : Int32)) dX6_ends_26 rfl ?_
    refine z_icmp_ge (pc := 28) (tgt := 60) x dX6_ends_28 rfl (fun _ => ?_) (fun _ => ?_)
    · refine z_aload_n (pc := 60) x 0 dX6_ends_60 rfl rfl ?_
      refine z_dup (pc := 61) x dX6_ends_61 rfl ?_
      refine z_get (pc := 62) (fun _ _ h => zAsI_eq h) x in_X6 (ci := 34) rfl (k := 12) (by decide) q2797 (fun _ h => h) dX6_ends_62 fun v62 => ?_
      refine z_iconst (pc := 65) x (v := (1 : Int32)) dX6_ends_65 rfl ?_
      refine z_isub (pc := 66) x dX6_ends_66 ?_
      refine z_set (pc := 67) (v := zI (v62 - (1 : Int32))) x in_X6 tyX6 tyX6_ok nmX6 (ci := 34) rfl (k := 12) (by decide) q2797 (fun _ h => h) rfl rfl rfl dX6_ends_67 ?_
      exact z_sub [0, 1] rfl (w_X6_ends_70 x hl hret hnm htab a0 a1)
    · refine z_aload_n (pc := 31) x 0 dX6_ends_31 rfl rfl ?_
      refine z_get (pc := 32) (fun _ _ h => zAsR_eq h) x in_X6 (ci := 34) rfl (k := 3) (by decide) q2788 (fun _ h => h) dX6_ends_32 fun v32 => ?_
      refine z_sipush (pc := 35) x (v := (1128 : Int32)) dX6_ends_35 rfl ?_
      refine z_iload_n (pc := 38) x 2 dX6_ends_38 rfl rfl ?_
      refine z_imul (pc := 39) x dX6_ends_39 ?_
      refine z_aload_n (pc := 40) x 0 dX6_ends_40 rfl rfl ?_
      refine z_get (pc := 41) (fun _ _ h => zAsR_eq h) x in_X6 (ci := 34) rfl (k := 3) (by decide) q2788 (fun _ h => h) dX6_ends_41 fun v41 => ?_
      refine z_sipush (pc := 44) x (v := (1128 : Int32)) dX6_ends_44 rfl ?_
      refine z_iload_n (pc := 47) x 2 dX6_ends_47 rfl rfl ?_
      refine z_iconst (pc := 48) x (v := (1 : Int32)) dX6_ends_48 rfl ?_
      refine z_isub (pc := 49) x dX6_ends_49 ?_
      refine z_imul (pc := 50) x dX6_ends_50 ?_
      refine z_call (pc := 51) (z_canS (pc := 51) (As := [zP v32, zI ((1128 : Int32) * a2), zP v41, zI ((1128 : Int32) * (a2 - (1 : Int32)))]) (st := []) x (m_X6_copies hl v32 ((1128 : Int32) * a2) v41 ((1128 : Int32) * (a2 - (1 : Int32)))) q2882 q2883 q121 q2884 n_X6_copies ⟨by decide, by decide⟩ (Nat.le_of_ble_eq_true rfl) dX6_ends_51) (zv_V ?_) (fun q => zx_thr x (fun z hz => (htab z hz).elim) q)
      refine z_iinc (pc := 54) (lv' := [(2, zI (a2 + (1 : Int32))), (0, zP a0), (1, zI a1)]) x (v2 := (a2 + (1 : Int32))) 2 dX6_ends_54 rfl rfl (Nat.le_of_ble_eq_true rfl) rfl ?_
      refine z_goto (pc := 57) (tgt := 25) x dX6_ends_57 rfl ?_
      exact z_sub [1, 2, 0] rfl (h25 a0 a1 (a2 + (1 : Int32)))
def s_X6_ends (E : zE) (a0 : Option Nat) (a1 : Int32) : zM := zSetN E .boolean a0 34 20 (0 : Int32) (zGetI a0 34 13 (fun v6 => if v6 = 0 then (zGetI a0 34 12 (fun v15 => if v15 = (8 : Int32) then (s_X6_ends_25 E zN a0 a1 (1 : Int32)) else (s_X6_ends_70 E a0 a1))) else (zRet (some (.int (0 : Int32))))))
theorem m_X6_ends {l : Launch} {E : zE} {D : va_G} {tA : Nat → ClassId} (hl : l.stackTraces = false) (a0 : Option Nat) (a1 : Int32) : zMet l E D tA yX6_ends (ws_ yX6_ends cX6_ends 3 (Option.some Jvm.ClassFile.FieldType.int)) 10 (s_X6_ends E a0 a1) [zP a0, zI a1] := by
  refine z_met hl (by decide +kernel) (by rw [zSl_len]; exact (Nat.le_of_ble_eq_true rfl)) fun p e R s m args below meth c k0 x hret hnm htab => ?_
  refine z_lv [(0, zP a0), (1, zI a1)] rfl ?_
  unfold s_X6_ends
  refine z_aload_n (pc := 0) x 0 dX6_ends_0 rfl rfl ?_
  refine z_iconst (pc := 1) x (v := (0 : Int32)) dX6_ends_1 rfl ?_
  refine z_set_small fun hn hf => ?_
  refine z_set (pc := 2) (v := zI (0 : Int32)) x in_X6 tyX6 tyX6_ok nmX6 (ci := 34) rfl (k := 20) (by decide) q2805 (fun _ h => h) rfl hn hf dX6_ends_2 ?_
  refine z_aload_n (pc := 5) x 0 dX6_ends_5 rfl rfl ?_
  refine z_get (pc := 6) (fun _ _ h => zAsI_eq h) x in_X6 (ci := 34) rfl (k := 13) (by decide) q2798 (fun _ h => h) dX6_ends_6 fun v6 => ?_
  refine z_if_eq (pc := 9) (tgt := 14) x dX6_ends_9 rfl (fun _ => ?_) (fun _ => ?_)
  · refine z_aload_n (pc := 14) x 0 dX6_ends_14 rfl rfl ?_
    refine z_get (pc := 15) (fun _ _ h => zAsI_eq h) x in_X6 (ci := 34) rfl (k := 12) (by decide) q2797 (fun _ h => h) dX6_ends_15 fun v15 => ?_
    refine z_bipush (pc := 18) x (v := (8 : Int32)) dX6_ends_18 rfl ?_
    refine z_icmp_ne (pc := 20) (tgt := 70) x dX6_ends_20 rfl (fun _ => ?_) (fun _ => ?_)
    · refine z_iconst (pc := 23) x (v := (1 : Int32)) dX6_ends_23 rfl ?_
      refine z_istore_n (pc := 24) (lv' := [(2, zI (1 : Int32)), (0, zP a0), (1, zI a1)]) x dX6_ends_24 rfl (Nat.le_of_ble_eq_true rfl) rfl ?_
      exact z_sub [1, 2, 0] rfl (w_X6_ends_25 x hl hret hnm htab zN a0 a1 (1 : Int32))
    · exact z_sub [0, 1] rfl (w_X6_ends_70 x hl hret hnm htab a0 a1)
  · refine z_iconst (pc := 12) x (v := (0 : Int32)) dX6_ends_12 rfl ?_
    exact z_iret (pc := 13) x hret dX6_ends_13
/-! X6_addFact -/
def s_X6_addFact (E : zE) (a0 : Option Nat) (a1 : Int32) (a2 : Int32) (a3 : Int32) : zM := zC (zRv a0 [(34, fun b => s_X6_keeps E (some b))]) zThr (zKV (zC (zRv a0 [(34, fun b => s_X6_adds E (some b) a1 a2 a3)]) zThr (zKI (fun v9 => zC (zRv a0 [(34, fun b => s_X6_ends E (some b) v9)]) zThr (zKI (fun v12 => zRet (some (.int v12))))))))
theorem m_X6_addFact {l : Launch} {E : zE} {D : va_G} {tA : Nat → ClassId} (hl : l.stackTraces = false) (a0 : Option Nat) (a1 : Int32) (a2 : Int32) (a3 : Int32) : zMet l E D tA yX6_addFact (ws_ yX6_addFact cX6_addFact 4 (Option.some Jvm.ClassFile.FieldType.int)) 13 (s_X6_addFact E a0 a1 a2 a3) [zP a0, zI a1, zI a2, zI a3] := by
  refine z_met hl (by decide +kernel) (by rw [zSl_len]; exact (Nat.le_of_ble_eq_true rfl)) fun p e R s m args below meth c k0 x hret hnm htab => ?_
  refine z_lv [(0, zP a0), (1, zI a1), (2, zI a2), (3, zI a3)] rfl ?_
  unfold s_X6_addFact
  refine z_aload_n (pc := 0) x 0 dX6_addFact_0 rfl rfl ?_
  refine z_call (pc := 1) (z_canV (pc := 1) (As := []) (st := []) x (ci := 34) rfl (fun b => m_X6_keeps hl (some b)) q2878 q2880 (z_selP x (ci := 34) rfl (by decide) (zNi_inst x q2780) q2879 q2880) q121 q2881 n_X6_keeps ⟨by decide, by decide⟩ (Nat.le_of_ble_eq_true rfl) dX6_addFact_1) (zv_V ?_) (fun q => zx_thr x (fun z hz => (htab z hz).elim) q)
  refine z_aload_n (pc := 4) x 0 dX6_addFact_4 rfl rfl ?_
  refine z_aload_n (pc := 5) x 0 dX6_addFact_5 rfl rfl ?_
  refine z_iload_n (pc := 6) x 1 dX6_addFact_6 rfl rfl ?_
  refine z_iload_n (pc := 7) x 2 dX6_addFact_7 rfl rfl ?_
  refine z_iload_n (pc := 8) x 3 dX6_addFact_8 rfl rfl ?_
  refine z_call (pc := 9) (z_canV (pc := 9) (As := [zI a1, zI a2, zI a3]) (st := [zP a0]) x (ci := 34) rfl (fun b => m_X6_adds hl (some b) a1 a2 a3) q2885 q2887 (z_selP x (ci := 34) rfl (by decide) (zNi_inst x q2780) q2886 q2887) q121 q2888 n_X6_adds ⟨by decide, by decide⟩ (Nat.le_of_ble_eq_true rfl) dX6_addFact_9) (zv_I fun v9 => ?_) (fun q => zx_thr x (fun z hz => (htab z hz).elim) q)
  refine z_call (pc := 12) (z_canV (pc := 12) (As := [zI v9]) (st := []) x (ci := 34) rfl (fun b => m_X6_ends hl (some b) v9) q2911 q2913 (z_selP x (ci := 34) rfl (by decide) (zNi_inst x q2780) q2912 q2913) q121 q2914 n_X6_ends ⟨by decide, by decide⟩ (Nat.le_of_ble_eq_true rfl) dX6_addFact_12) (zv_I fun v12 => ?_) (fun q => zx_thr x (fun z hz => (htab z hz).elim) q)
  exact z_iret (pc := 15) x hret dX6_addFact_15
/-! X6_of -/
def s_X6_of (E : zE) (a0 : Option Nat) (a1 : Int32) (a2 : Int32) : zM := zGetR a0 34 0 (fun v1 => zGaI 0 v1 (((444 : Int32) + ((76 : Int32) * a1)) + a2) (fun v14 => zRet (some (.int v14))))
theorem m_X6_of {l : Launch} {E : zE} {D : va_G} {tA : Nat → ClassId} (hl : l.stackTraces = false) (a0 : Option Nat) (a1 : Int32) (a2 : Int32) : zMet l E D tA yX6_of (ws_ yX6_of cX6_of 3 (Option.some Jvm.ClassFile.FieldType.int)) 9 (s_X6_of E a0 a1 a2) [zP a0, zI a1, zI a2] := by
  refine z_met hl (by decide +kernel) (by rw [zSl_len]; exact (Nat.le_of_ble_eq_true rfl)) fun p e R s m args below meth c k0 x hret hnm htab => ?_
  refine z_lv [(0, zP a0), (1, zI a1), (2, zI a2)] rfl ?_
  unfold s_X6_of
  refine z_aload_n (pc := 0) x 0 dX6_of_0 rfl rfl ?_
  refine z_get (pc := 1) (fun _ _ h => zAsR_eq h) x in_X6 (ci := 34) rfl (k := 0) (by decide) q2785 (fun _ h => h) dX6_of_1 fun v1 => ?_
  refine z_sipush (pc := 4) x (v := (444 : Int32)) dX6_of_4 rfl ?_
  refine z_bipush (pc := 7) x (v := (76 : Int32)) dX6_of_7 rfl ?_
  refine z_iload_n (pc := 9) x 1 dX6_of_9 rfl rfl ?_
  refine z_imul (pc := 10) x dX6_of_10 ?_
  refine z_iadd (pc := 11) x dX6_of_11 ?_
  refine z_iload_n (pc := 12) x 2 dX6_of_12 rfl rfl ?_
  refine z_iadd (pc := 13) x dX6_of_13 ?_
  refine z_iald (pc := 14) x (t := 0) rfl dX6_of_14 fun v14 => ?_
  exact z_iret (pc := 15) x hret dX6_of_15
/-! X6_literal -/
def s_X6_literal (E : zE) (a0 : Option Nat) (a1 : Int32) (a2 : Int32) (a3 : Int32) : zM := zC (zRv a0 [(34, fun b => s_X6_of E (some b) a1 (((4 : Int32) + ((4 : Int32) * a2)) + a3))]) zThr (zKI (fun v9 => zRet (some (.int v9))))
theorem m_X6_literal {l : Launch} {E : zE} {D : va_G} {tA : Nat → ClassId} (hl : l.stackTraces = false) (a0 : Option Nat) (a1 : Int32) (a2 : Int32) (a3 : Int32) : zMet l E D tA yX6_literal (ws_ yX6_literal cX6_literal 4 (Option.some Jvm.ClassFile.FieldType.int)) 10 (s_X6_literal E a0 a1 a2 a3) [zP a0, zI a1, zI a2, zI a3] := by
  refine z_met hl (by decide +kernel) (by rw [zSl_len]; exact (Nat.le_of_ble_eq_true rfl)) fun p e R s m args below meth c k0 x hret hnm htab => ?_
  refine z_lv [(0, zP a0), (1, zI a1), (2, zI a2), (3, zI a3)] rfl ?_
  unfold s_X6_literal
  refine z_aload_n (pc := 0) x 0 dX6_literal_0 rfl rfl ?_
  refine z_iload_n (pc := 1) x 1 dX6_literal_1 rfl rfl ?_
  refine z_iconst (pc := 2) x (v := (4 : Int32)) dX6_literal_2 rfl ?_
  refine z_iconst (pc := 3) x (v := (4 : Int32)) dX6_literal_3 rfl ?_
  refine z_iload_n (pc := 4) x 2 dX6_literal_4 rfl rfl ?_
  refine z_imul (pc := 5) x dX6_literal_5 ?_
  refine z_iadd (pc := 6) x dX6_literal_6 ?_
  refine z_iload_n (pc := 7) x 3 dX6_literal_7 rfl rfl ?_
  refine z_iadd (pc := 8) x dX6_literal_8 ?_
  refine z_call (pc := 9) (z_canV (pc := 9) (As := [zI a1, zI (((4 : Int32) + ((4 : Int32) * a2)) + a3)]) (st := []) x (ci := 34) rfl (fun b => m_X6_of hl (some b) a1 (((4 : Int32) + ((4 : Int32) * a2)) + a3)) q2939 q2941 (z_selP x (ci := 34) rfl (by decide) (zNi_inst x q2780) q2940 q2941) q121 q2942 n_X6_of ⟨by decide, by decide⟩ (Nat.le_of_ble_eq_true rfl) dX6_literal_9) (zv_I fun v9 => ?_) (fun q => zx_thr x (fun z hz => (htab z hz).elim) q)
  exact z_iret (pc := 12) x hret dX6_literal_12
/-! X6_needsBy -/
def s_X6_needsBy_53 (E : zE) (k3 : Option Nat → Int32 → Int32 → Int32 → Int32 → zM) (a0 : Option Nat) (a1 : Int32) (a2 : Int32) (a3 : Int32) (a4 : Int32) : zM := k3 a0 a1 a2 a3 (a4 + (1 : Int32))
theorem w_X6_needsBy_53 (x : zCx p l R s m args meth c E D tA cX6_needsBy 6 yX6_needsBy.cls 11) (hl : l.stackTraces = false) (hret : meth.sig.returnType = (Option.some Jvm.ClassFile.FieldType.boolean)) (hnm : meth.name = yX6_needsBy.name) (htab : ∀ z ∈ c.exceptionTable.toList, False) {k3 : Option Nat → Int32 → Int32 → Int32 → Int32 → zM} (h3 : ∀ (a0 : Option Nat) (a1 : Int32) (a2 : Int32) (a3 : Int32) (a4 : Int32) , zW p l e R s m args below meth c E D tA 6 k0 (k3 a0 a1 a2 a3 a4) [(0, zP a0), (1, zI a1), (2, zI a2), (3, zI a3), (4, zI a4)] 3 []) (a0 : Option Nat) (a1 : Int32) (a2 : Int32) (a3 : Int32) (a4 : Int32) : zW p l e R s m args below meth c E D tA 6 k0 (s_X6_needsBy_53 E k3 a0 a1 a2 a3 a4) [(0, zP a0), (1, zI a1), (2, zI a2), (3, zI a3), (4, zI a4)] 53 [] := by
  unfold s_X6_needsBy_53
  refine z_iinc (pc := 53) (lv' := [(4, zI (a4 + (1 : Int32))), (0, zP a0), (1, zI a1), (2, zI a2), (3, zI a3)]) x (v2 := (a4 + (1 : Int32))) 4 dX6_needsBy_53 rfl rfl (Nat.le_of_ble_eq_true rfl) rfl ?_
  refine z_goto (pc := 56) (tgt := 3) x dX6_needsBy_56 rfl ?_
  exact z_sub [1, 2, 3, 4, 0] rfl (h3 a0 a1 a2 a3 (a4 + (1 : Int32)))
def s_X6_needsBy_3 (E : zE) : Nat → Option Nat → Int32 → Int32 → Int32 → Int32 → zM
  | 0, _, _, _, _, _ => zFail
  | n + 1, a0, a1, a2, a3, a4 => zC (zRv a0 [(34, fun b => s_X6_of E (some b) a1 (3 : Int32))]) zThr (zKI (fun v8 => if v8 ≤ a4 then (zRetN .boolean (0 : Int32)) else (zC (zRv a0 [(34, fun b => s_X6_literal E (some b) a1 a4 (0 : Int32))]) zThr (zKI (fun v19 => zC (zRv a0 [(34, fun b => s_X6_literal E (some b) a1 a4 (1 : Int32))]) zThr (zKI (fun v29 => if v29 = a2 then (if v19 = (1 : Int32) then (zRetN .boolean (1 : Int32)) else (if v19 = 0 then (if a3 = 0 then (zRetN .boolean (1 : Int32)) else (s_X6_needsBy_53 E (s_X6_needsBy_3 E n) a0 a1 a2 a3 a4)) else (s_X6_needsBy_53 E (s_X6_needsBy_3 E n) a0 a1 a2 a3 a4))) else (s_X6_needsBy_53 E (s_X6_needsBy_3 E n) a0 a1 a2 a3 a4))))))))
theorem w_X6_needsBy_3 (x : zCx p l R s m args meth c E D tA cX6_needsBy 6 yX6_needsBy.cls 11) (hl : l.stackTraces = false) (hret : meth.sig.returnType = (Option.some Jvm.ClassFile.FieldType.boolean)) (hnm : meth.name = yX6_needsBy.name) (htab : ∀ z ∈ c.exceptionTable.toList, False) : ∀ (n : Nat) (a0 : Option Nat) (a1 : Int32) (a2 : Int32) (a3 : Int32) (a4 : Int32), zW p l e R s m args below meth c E D tA 6 k0 (s_X6_needsBy_3 E n a0 a1 a2 a3 a4) [(0, zP a0), (1, zI a1), (2, zI a2), (3, zI a3), (4, zI a4)] 3 [] := by
  intro n
  induction n with
  | zero => intro a0 a1 a2 a3 a4; exact z_fail
  | succ n h3 =>
    intro a0 a1 a2 a3 a4
    rw [s_X6_needsBy_3]
    refine z_iload (pc := 3) x 4 dX6_needsBy_3 rfl ?_
    refine z_aload_n (pc := 5) x 0 dX6_needsBy_5 rfl rfl ?_
    refine z_iload_n (pc := 6) x 1 dX6_needsBy_6 rfl rfl ?_
    refine z_iconst (pc := 7) x (v := (3 : Int32)) dX6_needsBy_7 rfl ?_
    refine z_call (pc := 8) (z_canV (pc := 8) (As := [zI a1, zI (3 : Int32)]) (st := [zI a4]) x (ci := 34) rfl (fun b => m_X6_of hl (some b) a1 (3 : Int32)) q2939 q2941 (z_selP x (ci := 34) rfl (by decide) (zNi_inst x q2780) q2940 q2941) q121 q2942 n_X6_of ⟨by decide, by decide⟩ (Nat.le_of_ble_eq_true rfl) dX6_needsBy_8) (zv_I fun v8 => ?_) (fun q => zx_thr x (fun z hz => (htab z hz).elim) q)
    refine z_icmp_ge (pc := 11) (tgt := 59) x dX6_needsBy_11 rfl (fun _ => ?_) (fun _ => ?_)
    · refine z_iconst (pc := 59) x (v := (0 : Int32)) dX6_needsBy_59 rfl ?_
      exact z_zret (pc := 60) x hret dX6_needsBy_60
    · refine z_aload_n (pc := 14) x 0 dX6_needsBy_14 rfl rfl ?_
      refine z_iload_n (pc := 15) x 1 dX6_needsBy_15 rfl rfl ?_
      refine z_iload (pc := 16) x 4 dX6_needsBy_16 rfl ?_
      refine z_iconst (pc := 18) x (v := (0 : Int32)) dX6_needsBy_18 rfl ?_
      refine z_call (pc := 19) (z_canV (pc := 19) (As := [zI a1, zI a4, zI (0 : Int32)]) (st := []) x (ci := 34) rfl (fun b => m_X6_literal hl (some b) a1 a4 (0 : Int32)) q2943 q2945 (z_selP x (ci := 34) rfl (by decide) (zNi_inst x q2780) q2944 q2945) q121 q2946 n_X6_literal ⟨by decide, by decide⟩ (Nat.le_of_ble_eq_true rfl) dX6_needsBy_19) (zv_I fun v19 => ?_) (fun q => zx_thr x (fun z hz => (htab z hz).elim) q)
      refine z_istore (pc := 22) (lv' := [(5, zI v19), (0, zP a0), (1, zI a1), (2, zI a2), (3, zI a3), (4, zI a4)]) x dX6_needsBy_22 (Nat.le_of_ble_eq_true rfl) rfl ?_
      refine z_aload_n (pc := 24) x 1 dX6_needsBy_24 rfl rfl ?_
      refine z_iload_n (pc := 25) x 2 dX6_needsBy_25 rfl rfl ?_
      refine z_iload (pc := 26) x 5 dX6_needsBy_26 rfl ?_
      refine z_iconst (pc := 28) x (v := (1 : Int32)) dX6_needsBy_28 rfl ?_
      refine z_call (pc := 29) (z_canV (pc := 29) (As := [zI a1, zI a4, zI (1 : Int32)]) (st := []) x (ci := 34) rfl (fun b => m_X6_literal hl (some b) a1 a4 (1 : Int32)) q2943 q2945 (z_selP x (ci := 34) rfl (by decide) (zNi_inst x q2780) q2944 q2945) q121 q2946 n_X6_literal ⟨by decide, by decide⟩ (Nat.le_of_ble_eq_true rfl) dX6_needsBy_29) (zv_I fun v29 => ?_) (fun q => zx_thr x (fun z hz => (htab z hz).elim) q)
      refine z_iload_n (pc := 32) x 3 dX6_needsBy_32 rfl rfl ?_
      refine z_icmp_ne (pc := 33) (tgt := 53) x dX6_needsBy_33 rfl (fun _ => ?_) (fun _ => ?_)
      · refine z_iload (pc := 36) x 0 dX6_needsBy_36 rfl ?_
        refine z_iconst (pc := 38) x (v := (1 : Int32)) dX6_needsBy_38 rfl ?_
        refine z_icmp_eq (pc := 39) (tgt := 51) x dX6_needsBy_39 rfl (fun _ => ?_) (fun _ => ?_)
        · refine z_iconst (pc := 51) x (v := (1 : Int32)) dX6_needsBy_51 rfl ?_
          exact z_zret (pc := 52) x hret dX6_needsBy_52
        · refine z_iload (pc := 42) x 0 dX6_needsBy_42 rfl ?_
          refine z_if_ne (pc := 44) (tgt := 53) x dX6_needsBy_44 rfl (fun _ => ?_) (fun _ => ?_)
          · refine z_iload_n (pc := 47) x 4 dX6_needsBy_47 rfl rfl ?_
            refine z_if_ne (pc := 48) (tgt := 53) x dX6_needsBy_48 rfl (fun _ => ?_) (fun _ => ?_)
            · refine z_iconst (pc := 51) x (v := (1 : Int32)) dX6_needsBy_51 rfl ?_
              exact z_zret (pc := 52) x hret dX6_needsBy_52
            · exact z_sub [1, 2, 3, 4, 5] rfl (w_X6_needsBy_53 x hl hret hnm htab h3 a0 a1 a2 a3 a4)
          · exact z_sub [1, 2, 3, 4, 5] rfl (w_X6_needsBy_53 x hl hret hnm htab h3 a0 a1 a2 a3 a4)
      · exact z_sub [1, 2, 3, 4, 5] rfl (w_X6_needsBy_53 x hl hret hnm htab h3 a0 a1 a2 a3 a4)
def s_X6_needsBy (E : zE) (a0 : Option Nat) (a1 : Int32) (a2 : Int32) (a3 : Int32) : zM := s_X6_needsBy_3 E zN a0 a1 a2 a3 (0 : Int32)
theorem m_X6_needsBy {l : Launch} {E : zE} {D : va_G} {tA : Nat → ClassId} (hl : l.stackTraces = false) (a0 : Option Nat) (a1 : Int32) (a2 : Int32) (a3 : Int32) : zMet l E D tA yX6_needsBy (ws_ yX6_needsBy cX6_needsBy 6 (Option.some Jvm.ClassFile.FieldType.boolean)) 11 (s_X6_needsBy E a0 a1 a2 a3) [zP a0, zI a1, zI a2, zI a3] := by
  refine z_met hl (by decide +kernel) (by rw [zSl_len]; exact (Nat.le_of_ble_eq_true rfl)) fun p e R s m args below meth c k0 x hret hnm htab => ?_
  refine z_lv [(0, zP a0), (1, zI a1), (2, zI a2), (3, zI a3)] rfl ?_
  unfold s_X6_needsBy
  refine z_iconst (pc := 0) x (v := (0 : Int32)) dX6_needsBy_0 rfl ?_
  refine z_istore (pc := 1) (lv' := [(4, zI (0 : Int32)), (0, zP a0), (1, zI a1), (2, zI a2), (3, zI a3)]) x dX6_needsBy_1 (Nat.le_of_ble_eq_true rfl) rfl ?_
  exact z_sub [1, 2, 3, 4, 0] rfl (w_X6_needsBy_3 x hl hret hnm htab zN a0 a1 a2 a3 (0 : Int32))
/-! X6_layers -/
def s_X6_layers_123 (E : zE) (k23 : Option Nat → Int32 → zM) (k31 : Option Nat → Int32 → Int32 → zM) (k43 : Option Nat → Int32 → Int32 → Int32 → zM) (a0 : Option Nat) (a1 : Int32) (a2 : Int32) (a3 : Int32) : zM := k43 a0 a1 a2 (a3 + (1 : Int32))
theorem w_X6_layers_123 (x : zCx p l R s m args meth c E D tA cX6_layers 5 yX6_layers.cls 12) (hl : l.stackTraces = false) (hret : meth.sig.returnType = (Option.none : Option Jvm.ClassFile.FieldType)) (hnm : meth.name = yX6_layers.name) (htab : ∀ z ∈ c.exceptionTable.toList, False) {k23 : Option Nat → Int32 → zM} (h23 : ∀ (a0 : Option Nat) (a1 : Int32) , zW p l e R s m args below meth c E D tA 5 k0 (k23 a0 a1) [(0, zP a0), (1, zI a1)] 23 []) {k31 : Option Nat → Int32 → Int32 → zM} (h31 : ∀ (a0 : Option Nat) (a1 : Int32) (a2 : Int32) , zW p l e R s m args below meth c E D tA 5 k0 (k31 a0 a1 a2) [(0, zP a0), (1, zI a1), (2, zI a2)] 31 []) {k43 : Option Nat → Int32 → Int32 → Int32 → zM} (h43 : ∀ (a0 : Option Nat) (a1 : Int32) (a2 : Int32) (a3 : Int32) , zW p l e R s m args below meth c E D tA 5 k0 (k43 a0 a1 a2 a3) [(0, zP a0), (1, zI a1), (2, zI a2), (3, zI a3)] 43 []) (a0 : Option Nat) (a1 : Int32) (a2 : Int32) (a3 : Int32) : zW p l e R s m args below meth c E D tA 5 k0 (s_X6_layers_123 E k23 k31 k43 a0 a1 a2 a3) [(0, zP a0), (1, zI a1), (2, zI a2), (3, zI a3)] 123 [] := by
  unfold s_X6_layers_123
  refine z_iinc (pc := 123) (lv' := [(3, zI (a3 + (1 : Int32))), (0, zP a0), (1, zI a1), (2, zI a2)]) x (v2 := (a3 + (1 : Int32))) 3 dX6_layers_123 rfl rfl (Nat.le_of_ble_eq_true rfl) rfl ?_
  refine z_goto (pc := 126) (tgt := 43) x dX6_layers_126 rfl ?_
  exact z_sub [1, 2, 3, 0] rfl (h43 a0 a1 a2 (a3 + (1 : Int32)))
def s_X6_layers_90 (E : zE) (k23 : Option Nat → Int32 → zM) (k31 : Option Nat → Int32 → Int32 → zM) (k43 : Option Nat → Int32 → Int32 → Int32 → zM) (a0 : Option Nat) (a1 : Int32) (a2 : Int32) (a3 : Int32) (b0 : Int32) : zM := zGetR a0 34 7 (fun v93 => zC (zRv a0 [(34, fun b => s_X6_of E (some b) a2 (0 : Int32))]) zThr (zKI (fun v99 => zGaI 0 v93 v99 (fun v102 => if b0 ≤ v102 then (s_X6_layers_123 E k23 k31 k43 a0 a1 a2 a3) else (zGetR a0 34 7 (fun v109 => zC (zRv a0 [(34, fun b => s_X6_of E (some b) a2 (0 : Int32))]) zThr (zKI (fun v115 => zSaI E 0 v109 v115 b0 (s_X6_layers_123 E k23 k31 k43 a0 (1 : Int32) a2 a3)))))))))
theorem w_X6_layers_90 (x : zCx p l R s m args meth c E D tA cX6_layers 5 yX6_layers.cls 12) (hl : l.stackTraces = false) (hret : meth.sig.returnType = (Option.none : Option Jvm.ClassFile.FieldType)) (hnm : meth.name = yX6_layers.name) (htab : ∀ z ∈ c.exceptionTable.toList, False) {k23 : Option Nat → Int32 → zM} (h23 : ∀ (a0 : Option Nat) (a1 : Int32) , zW p l e R s m args below meth c E D tA 5 k0 (k23 a0 a1) [(0, zP a0), (1, zI a1)] 23 []) {k31 : Option Nat → Int32 → Int32 → zM} (h31 : ∀ (a0 : Option Nat) (a1 : Int32) (a2 : Int32) , zW p l e R s m args below meth c E D tA 5 k0 (k31 a0 a1 a2) [(0, zP a0), (1, zI a1), (2, zI a2)] 31 []) {k43 : Option Nat → Int32 → Int32 → Int32 → zM} (h43 : ∀ (a0 : Option Nat) (a1 : Int32) (a2 : Int32) (a3 : Int32) , zW p l e R s m args below meth c E D tA 5 k0 (k43 a0 a1 a2 a3) [(0, zP a0), (1, zI a1), (2, zI a2), (3, zI a3)] 43 []) (a0 : Option Nat) (a1 : Int32) (a2 : Int32) (a3 : Int32) (b0 : Int32) : zW p l e R s m args below meth c E D tA 5 k0 (s_X6_layers_90 E k23 k31 k43 a0 a1 a2 a3 b0) [(0, zP a0), (1, zI a1), (2, zI a2), (3, zI a3)] 90 [zI b0] := by
  unfold s_X6_layers_90
  refine z_istore (pc := 90) (lv' := [(4, zI b0), (0, zP a0), (1, zI a1), (2, zI a2), (3, zI a3)]) x dX6_layers_90 (Nat.le_of_ble_eq_true rfl) rfl ?_
  refine z_aload_n (pc := 92) x 1 dX6_layers_92 rfl rfl ?_
  refine z_get (pc := 93) (fun _ _ h => zAsR_eq h) x in_X6 (ci := 34) rfl (k := 7) (by decide) q2792 (fun _ h => h) dX6_layers_93 fun v93 => ?_
  refine z_aload_n (pc := 96) x 1 dX6_layers_96 rfl rfl ?_
  refine z_iload_n (pc := 97) x 3 dX6_layers_97 rfl rfl ?_
  refine z_iconst (pc := 98) x (v := (0 : Int32)) dX6_layers_98 rfl ?_
  refine z_call (pc := 99) (z_canV (pc := 99) (As := [zI a2, zI (0 : Int32)]) (st := [zP v93]) x (ci := 34) rfl (fun b => m_X6_of hl (some b) a2 (0 : Int32)) q2939 q2941 (z_selP x (ci := 34) rfl (by decide) (zNi_inst x q2780) q2940 q2941) q121 q2942 n_X6_of ⟨by decide, by decide⟩ (Nat.le_of_ble_eq_true rfl) dX6_layers_99) (zv_I fun v99 => ?_) (fun q => zx_thr x (fun z hz => (htab z hz).elim) q)
  refine z_iald (pc := 102) x (t := 0) rfl dX6_layers_102 fun v102 => ?_
  refine z_iload (pc := 103) x 0 dX6_layers_103 rfl ?_
  refine z_icmp_ge (pc := 105) (tgt := 123) x dX6_layers_105 rfl (fun _ => ?_) (fun _ => ?_)
  · exact z_sub [1, 2, 3, 4] rfl (w_X6_layers_123 x hl hret hnm htab h23 h31 h43 a0 a1 a2 a3)
  · refine z_aload_n (pc := 108) x 1 dX6_layers_108 rfl rfl ?_
    refine z_get (pc := 109) (fun _ _ h => zAsR_eq h) x in_X6 (ci := 34) rfl (k := 7) (by decide) q2792 (fun _ h => h) dX6_layers_109 fun v109 => ?_
    refine z_aload_n (pc := 112) x 1 dX6_layers_112 rfl rfl ?_
    refine z_iload_n (pc := 113) x 3 dX6_layers_113 rfl rfl ?_
    refine z_iconst (pc := 114) x (v := (0 : Int32)) dX6_layers_114 rfl ?_
    refine z_call (pc := 115) (z_canV (pc := 115) (As := [zI a2, zI (0 : Int32)]) (st := [zP v109]) x (ci := 34) rfl (fun b => m_X6_of hl (some b) a2 (0 : Int32)) q2939 q2941 (z_selP x (ci := 34) rfl (by decide) (zNi_inst x q2780) q2940 q2941) q121 q2942 n_X6_of ⟨by decide, by decide⟩ (Nat.le_of_ble_eq_true rfl) dX6_layers_115) (zv_I fun v115 => ?_) (fun q => zx_thr x (fun z hz => (htab z hz).elim) q)
    refine z_iload (pc := 118) x 0 dX6_layers_118 rfl ?_
    refine z_iast (pc := 120) x (t := 0) rfl dX6_layers_120 ?_
    refine z_iconst (pc := 121) x (v := (1 : Int32)) dX6_layers_121 rfl ?_
    refine z_istore_n (pc := 122) (lv' := [(1, zI (1 : Int32)), (4, zI b0), (0, zP a0), (2, zI a2), (3, zI a3)]) x dX6_layers_122 rfl (Nat.le_of_ble_eq_true rfl) rfl ?_
    exact z_sub [2, 0, 3, 4] rfl (w_X6_layers_123 x hl hret hnm htab h23 h31 h43 a0 (1 : Int32) a2 a3)
def s_X6_layers_43 (E : zE) (k23 : Option Nat → Int32 → zM) (k31 : Option Nat → Int32 → Int32 → zM) : Nat → Option Nat → Int32 → Int32 → Int32 → zM
  | 0, _, _, _, _ => zFail
  | n + 1, a0, a1, a2, a3 => if (8 : Int32) ≤ a3 then (k31 a0 a1 (a2 + (1 : Int32))) else (zC (zRv a0 [(34, fun b => s_X6_needsBy E (some b) a2 a3 (1 : Int32))]) zThr (zKI (fun v53 => if v53 = 0 then (zC (zRv a0 [(34, fun b => s_X6_needsBy E (some b) a2 a3 (0 : Int32))]) zThr (zKI (fun v74 => if v74 = 0 then (s_X6_layers_90 E k23 k31 (s_X6_layers_43 E k23 k31 n) a0 a1 a2 a3 (0 : Int32)) else (zGetR a0 34 7 (fun v81 => zGaI 0 v81 a3 (fun v85 => s_X6_layers_90 E k23 k31 (s_X6_layers_43 E k23 k31 n) a0 a1 a2 a3 v85)))))) else (zGetR a0 34 7 (fun v60 => zGaI 0 v60 a3 (fun v64 => s_X6_layers_90 E k23 k31 (s_X6_layers_43 E k23 k31 n) a0 a1 a2 a3 (v64 + (1 : Int32))))))))
theorem w_X6_layers_43 (x : zCx p l R s m args meth c E D tA cX6_layers 5 yX6_layers.cls 12) (hl : l.stackTraces = false) (hret : meth.sig.returnType = (Option.none : Option Jvm.ClassFile.FieldType)) (hnm : meth.name = yX6_layers.name) (htab : ∀ z ∈ c.exceptionTable.toList, False) {k23 : Option Nat → Int32 → zM} (h23 : ∀ (a0 : Option Nat) (a1 : Int32) , zW p l e R s m args below meth c E D tA 5 k0 (k23 a0 a1) [(0, zP a0), (1, zI a1)] 23 []) {k31 : Option Nat → Int32 → Int32 → zM} (h31 : ∀ (a0 : Option Nat) (a1 : Int32) (a2 : Int32) , zW p l e R s m args below meth c E D tA 5 k0 (k31 a0 a1 a2) [(0, zP a0), (1, zI a1), (2, zI a2)] 31 []) : ∀ (n : Nat) (a0 : Option Nat) (a1 : Int32) (a2 : Int32) (a3 : Int32), zW p l e R s m args below meth c E D tA 5 k0 (s_X6_layers_43 E k23 k31 n a0 a1 a2 a3) [(0, zP a0), (1, zI a1), (2, zI a2), (3, zI a3)] 43 [] := by
  intro n
  induction n with
  | zero => intro a0 a1 a2 a3; exact z_fail
  | succ n h43 =>
    intro a0 a1 a2 a3
    rw [s_X6_layers_43]
    refine z_iload_n (pc := 43) x 3 dX6_layers_43 rfl rfl ?_
    refine z_bipush (pc := 44) x (v := (8 : Int32)) dX6_layers_44 rfl ?_
    refine z_icmp_ge (pc := 46) (tgt := 129) x dX6_layers_46 rfl (fun _ => ?_) (fun _ => ?_)
    · refine z_iinc (pc := 129) (lv' := [(2, zI (a2 + (1 : Int32))), (0, zP a0), (1, zI a1), (3, zI a3)]) x (v2 := (a2 + (1 : Int32))) 2 dX6_layers_129 rfl rfl (Nat.le_of_ble_eq_true rfl) rfl ?_
      refine z_goto (pc := 132) (tgt := 31) x dX6_layers_132 rfl ?_
      exact z_sub [1, 2, 0] rfl (h31 a0 a1 (a2 + (1 : Int32)))
    · refine z_aload_n (pc := 49) x 0 dX6_layers_49 rfl rfl ?_
      refine z_iload_n (pc := 50) x 2 dX6_layers_50 rfl rfl ?_
      refine z_iload_n (pc := 51) x 3 dX6_layers_51 rfl rfl ?_
      refine z_iconst (pc := 52) x (v := (1 : Int32)) dX6_layers_52 rfl ?_
      refine z_call (pc := 53) (z_canV (pc := 53) (As := [zI a2, zI a3, zI (1 : Int32)]) (st := []) x (ci := 34) rfl (fun b => m_X6_needsBy hl (some b) a2 a3 (1 : Int32)) q2935 q2937 (z_selP x (ci := 34) rfl (by decide) (zNi_inst x q2780) q2936 q2937) q121 q2938 n_X6_needsBy ⟨by decide, by decide⟩ (Nat.le_of_ble_eq_true rfl) dX6_layers_53) (zv_I fun v53 => ?_) (fun q => zx_thr x (fun z hz => (htab z hz).elim) q)
      refine z_if_eq (pc := 56) (tgt := 70) x dX6_layers_56 rfl (fun _ => ?_) (fun _ => ?_)
      · refine z_aload_n (pc := 70) x 0 dX6_layers_70 rfl rfl ?_
        refine z_iload_n (pc := 71) x 2 dX6_layers_71 rfl rfl ?_
        refine z_iload_n (pc := 72) x 3 dX6_layers_72 rfl rfl ?_
        refine z_iconst (pc := 73) x (v := (0 : Int32)) dX6_layers_73 rfl ?_
        refine z_call (pc := 74) (z_canV (pc := 74) (As := [zI a2, zI a3, zI (0 : Int32)]) (st := []) x (ci := 34) rfl (fun b => m_X6_needsBy hl (some b) a2 a3 (0 : Int32)) q2935 q2937 (z_selP x (ci := 34) rfl (by decide) (zNi_inst x q2780) q2936 q2937) q121 q2938 n_X6_needsBy ⟨by decide, by decide⟩ (Nat.le_of_ble_eq_true rfl) dX6_layers_74) (zv_I fun v74 => ?_) (fun q => zx_thr x (fun z hz => (htab z hz).elim) q)
        refine z_if_eq (pc := 77) (tgt := 89) x dX6_layers_77 rfl (fun _ => ?_) (fun _ => ?_)
        · refine z_iconst (pc := 89) x (v := (0 : Int32)) dX6_layers_89 rfl ?_
          exact z_sub [0, 1, 2, 3] rfl (w_X6_layers_90 x hl hret hnm htab h23 h31 h43 a0 a1 a2 a3 (0 : Int32))
        · refine z_aload_n (pc := 80) x 0 dX6_layers_80 rfl rfl ?_
          refine z_get (pc := 81) (fun _ _ h => zAsR_eq h) x in_X6 (ci := 34) rfl (k := 7) (by decide) q2792 (fun _ h => h) dX6_layers_81 fun v81 => ?_
          refine z_iload_n (pc := 84) x 3 dX6_layers_84 rfl rfl ?_
          refine z_iald (pc := 85) x (t := 0) rfl dX6_layers_85 fun v85 => ?_
          refine z_goto (pc := 86) (tgt := 90) x dX6_layers_86 rfl ?_
          exact z_sub [0, 1, 2, 3] rfl (w_X6_layers_90 x hl hret hnm htab h23 h31 h43 a0 a1 a2 a3 v85)
      · refine z_aload_n (pc := 59) x 0 dX6_layers_59 rfl rfl ?_
        refine z_get (pc := 60) (fun _ _ h => zAsR_eq h) x in_X6 (ci := 34) rfl (k := 7) (by decide) q2792 (fun _ h => h) dX6_layers_60 fun v60 => ?_
        refine z_iload_n (pc := 63) x 3 dX6_layers_63 rfl rfl ?_
        refine z_iald (pc := 64) x (t := 0) rfl dX6_layers_64 fun v64 => ?_
        refine z_iconst (pc := 65) x (v := (1 : Int32)) dX6_layers_65 rfl ?_
        refine z_iadd (pc := 66) x dX6_layers_66 ?_
        refine z_goto (pc := 67) (tgt := 90) x dX6_layers_67 rfl ?_
        exact z_sub [0, 1, 2, 3] rfl (w_X6_layers_90 x hl hret hnm htab h23 h31 h43 a0 a1 a2 a3 (v64 + (1 : Int32)))
def s_X6_layers_31 (E : zE) (k23 : Option Nat → Int32 → zM) : Nat → Option Nat → Int32 → Int32 → zM
  | 0, _, _, _ => zFail
  | n + 1, a0, a1, a2 => zGetR a0 34 0 (fun v33 => zGaI 0 v33 (3 : Int32) (fun v37 => if v37 ≤ a2 then (k23 a0 a1) else (s_X6_layers_43 E k23 (s_X6_layers_31 E k23 n) zN a0 a1 a2 (0 : Int32))))
theorem w_X6_layers_31 (x : zCx p l R s m args meth c E D tA cX6_layers 5 yX6_layers.cls 12) (hl : l.stackTraces = false) (hret : meth.sig.returnType = (Option.none : Option Jvm.ClassFile.FieldType)) (hnm : meth.name = yX6_layers.name) (htab : ∀ z ∈ c.exceptionTable.toList, False) {k23 : Option Nat → Int32 → zM} (h23 : ∀ (a0 : Option Nat) (a1 : Int32) , zW p l e R s m args below meth c E D tA 5 k0 (k23 a0 a1) [(0, zP a0), (1, zI a1)] 23 []) : ∀ (n : Nat) (a0 : Option Nat) (a1 : Int32) (a2 : Int32), zW p l e R s m args below meth c E D tA 5 k0 (s_X6_layers_31 E k23 n a0 a1 a2) [(0, zP a0), (1, zI a1), (2, zI a2)] 31 [] := by
  intro n
  induction n with
  | zero => intro a0 a1 a2; exact z_fail
  | succ n h31 =>
    intro a0 a1 a2
    rw [s_X6_layers_31]
    refine z_iload_n (pc := 31) x 2 dX6_layers_31 rfl rfl ?_
    refine z_aload_n (pc := 32) x 0 dX6_layers_32 rfl rfl ?_
    refine z_get (pc := 33) (fun _ _ h => zAsR_eq h) x in_X6 (ci := 34) rfl (k := 0) (by decide) q2785 (fun _ h => h) dX6_layers_33 fun v33 => ?_
    refine z_iconst (pc := 36) x (v := (3 : Int32)) dX6_layers_36 rfl ?_
    refine z_iald (pc := 37) x (t := 0) rfl dX6_layers_37 fun v37 => ?_
    refine z_icmp_ge (pc := 38) (tgt := 135) x dX6_layers_38 rfl (fun _ => ?_) (fun _ => ?_)
    · refine z_goto (pc := 135) (tgt := 23) x dX6_layers_135 rfl ?_
      exact z_sub [0, 1] rfl (h23 a0 a1)
    · refine z_iconst (pc := 41) x (v := (0 : Int32)) dX6_layers_41 rfl ?_
      refine z_istore_n (pc := 42) (lv' := [(3, zI (0 : Int32)), (0, zP a0), (1, zI a1), (2, zI a2)]) x dX6_layers_42 rfl (Nat.le_of_ble_eq_true rfl) rfl ?_
      exact z_sub [1, 2, 3, 0] rfl (w_X6_layers_43 x hl hret hnm htab h23 h31 zN a0 a1 a2 (0 : Int32))
def s_X6_layers_23 (E : zE) : Nat → Option Nat → Int32 → zM
  | 0, _, _ => zFail
  | n + 1, a0, a1 => if a1 = 0 then (zRet none) else (s_X6_layers_31 E (s_X6_layers_23 E n) zN a0 (0 : Int32) (0 : Int32))
theorem w_X6_layers_23 (x : zCx p l R s m args meth c E D tA cX6_layers 5 yX6_layers.cls 12) (hl : l.stackTraces = false) (hret : meth.sig.returnType = (Option.none : Option Jvm.ClassFile.FieldType)) (hnm : meth.name = yX6_layers.name) (htab : ∀ z ∈ c.exceptionTable.toList, False) : ∀ (n : Nat) (a0 : Option Nat) (a1 : Int32), zW p l e R s m args below meth c E D tA 5 k0 (s_X6_layers_23 E n a0 a1) [(0, zP a0), (1, zI a1)] 23 [] := by
  intro n
  induction n with
  | zero => intro a0 a1; exact z_fail
  | succ n h23 =>
    intro a0 a1
    rw [s_X6_layers_23]
    refine z_iload_n (pc := 23) x 1 dX6_layers_23 rfl rfl ?_
    refine z_if_eq (pc := 24) (tgt := 138) x dX6_layers_24 rfl (fun _ => ?_) (fun _ => ?_)
    · exact z_vret (pc := 138) x hret dX6_layers_138
    · refine z_iconst (pc := 27) x (v := (0 : Int32)) dX6_layers_27 rfl ?_
      refine z_istore_n (pc := 28) (lv' := [(1, zI (0 : Int32)), (0, zP a0)]) x dX6_layers_28 rfl (Nat.le_of_ble_eq_true rfl) rfl ?_
      refine z_iconst (pc := 29) x (v := (0 : Int32)) dX6_layers_29 rfl ?_
      refine z_istore_n (pc := 30) (lv' := [(2, zI (0 : Int32)), (1, zI (0 : Int32)), (0, zP a0)]) x dX6_layers_30 rfl (Nat.le_of_ble_eq_true rfl) rfl ?_
      exact z_sub [2, 1, 0] rfl (w_X6_layers_31 x hl hret hnm htab h23 zN a0 (0 : Int32) (0 : Int32))
def s_X6_layers_2 (E : zE) : Nat → Option Nat → Int32 → zM
  | 0, _, _ => zFail
  | n + 1, a0, a1 => if (8 : Int32) ≤ a1 then (s_X6_layers_23 E zN a0 (1 : Int32)) else (zGetR a0 34 7 (fun v9 => zSaI E 0 v9 a1 (0 : Int32) ((s_X6_layers_2 E n) a0 (a1 + (1 : Int32)))))
theorem w_X6_layers_2 (x : zCx p l R s m args meth c E D tA cX6_layers 5 yX6_layers.cls 12) (hl : l.stackTraces = false) (hret : meth.sig.returnType = (Option.none : Option Jvm.ClassFile.FieldType)) (hnm : meth.name = yX6_layers.name) (htab : ∀ z ∈ c.exceptionTable.toList, False) : ∀ (n : Nat) (a0 : Option Nat) (a1 : Int32), zW p l e R s m args below meth c E D tA 5 k0 (s_X6_layers_2 E n a0 a1) [(0, zP a0), (1, zI a1)] 2 [] := by
  intro n
  induction n with
  | zero => intro a0 a1; exact z_fail
  | succ n h2 =>
    intro a0 a1
    rw [s_X6_layers_2]
    refine z_iload_n (pc := 2) x 1 dX6_layers_2 rfl rfl ?_
    refine z_bipush (pc := 3) x (v := (8 : Int32)) dX6_layers_3 rfl ?_
    refine z_icmp_ge (pc := 5) (tgt := 21) x dX6_layers_5 rfl (fun _ => ?_) (fun _ => ?_)
    · refine z_iconst (pc := 21) x (v := (1 : Int32)) dX6_layers_21 rfl ?_
      refine z_istore_n (pc := 22) (lv' := [(1, zI (1 : Int32)), (0, zP a0)]) x dX6_layers_22 rfl (Nat.le_of_ble_eq_true rfl) rfl ?_
      exact z_sub [1, 0] rfl (w_X6_layers_23 x hl hret hnm htab zN a0 (1 : Int32))
    · refine z_aload_n (pc := 8) x 0 dX6_layers_8 rfl rfl ?_
      refine z_get (pc := 9) (fun _ _ h => zAsR_eq h) x in_X6 (ci := 34) rfl (k := 7) (by decide) q2792 (fun _ h => h) dX6_layers_9 fun v9 => ?_
      refine z_iload_n (pc := 12) x 1 dX6_layers_12 rfl rfl ?_
      refine z_iconst (pc := 13) x (v := (0 : Int32)) dX6_layers_13 rfl ?_
      refine z_iast (pc := 14) x (t := 0) rfl dX6_layers_14 ?_
      refine z_iinc (pc := 15) (lv' := [(1, zI (a1 + (1 : Int32))), (0, zP a0)]) x (v2 := (a1 + (1 : Int32))) 1 dX6_layers_15 rfl rfl (Nat.le_of_ble_eq_true rfl) rfl ?_
      refine z_goto (pc := 18) (tgt := 2) x dX6_layers_18 rfl ?_
      exact z_sub [1, 0] rfl (h2 a0 (a1 + (1 : Int32)))
def s_X6_layers (E : zE) (a0 : Option Nat) : zM := s_X6_layers_2 E zN a0 (0 : Int32)
theorem m_X6_layers {l : Launch} {E : zE} {D : va_G} {tA : Nat → ClassId} (hl : l.stackTraces = false) (a0 : Option Nat) : zMet l E D tA yX6_layers (ws_ yX6_layers cX6_layers 5 (Option.none : Option Jvm.ClassFile.FieldType)) 12 (s_X6_layers E a0) [zP a0] := by
  refine z_met hl (by decide +kernel) (by rw [zSl_len]; exact (Nat.le_of_ble_eq_true rfl)) fun p e R s m args below meth c k0 x hret hnm htab => ?_
  refine z_lv [(0, zP a0)] rfl ?_
  unfold s_X6_layers
  refine z_iconst (pc := 0) x (v := (0 : Int32)) dX6_layers_0 rfl ?_
  refine z_istore_n (pc := 1) (lv' := [(1, zI (0 : Int32)), (0, zP a0)]) x dX6_layers_1 rfl (Nat.le_of_ble_eq_true rfl) rfl ?_
  exact z_sub [1, 0] rfl (w_X6_layers_2 x hl hret hnm htab zN a0 (0 : Int32))
/-! X6_hasVariable -/
def s_X6_hasVariable_70 (E : zE) (k29 : Option Nat → Int32 → Int32 → Int32 → Int32 → zM) (a0 : Option Nat) (a1 : Int32) (a2 : Int32) (a4 : Int32) (b0 : Int32) (b1 : Int32) : zM := k29 a0 a1 a2 (b0 ||| b1) (a4 + (1 : Int32))
theorem w_X6_hasVariable_70 (x : zCx p l R s m args meth c E D tA cX6_hasVariable 5 yX6_hasVariable.cls 11) (hl : l.stackTraces = false) (hret : meth.sig.returnType = (Option.some Jvm.ClassFile.FieldType.boolean)) (hnm : meth.name = yX6_hasVariable.name) (htab : ∀ z ∈ c.exceptionTable.toList, False) {k29 : Option Nat → Int32 → Int32 → Int32 → Int32 → zM} (h29 : ∀ (a0 : Option Nat) (a1 : Int32) (a2 : Int32) (a3 : Int32) (a4 : Int32) , zW p l e R s m args below meth c E D tA 5 k0 (k29 a0 a1 a2 a3 a4) [(0, zP a0), (1, zI a1), (2, zI a2), (3, zI a3), (4, zI a4)] 29 []) (a0 : Option Nat) (a1 : Int32) (a2 : Int32) (a4 : Int32) (b0 : Int32) (b1 : Int32) : zW p l e R s m args below meth c E D tA 5 k0 (s_X6_hasVariable_70 E k29 a0 a1 a2 a4 b0 b1) [(0, zP a0), (1, zI a1), (2, zI a2), (4, zI a4)] 70 [zI b1, zI b0] := by
  unfold s_X6_hasVariable_70
  refine z_ior (pc := 70) x dX6_hasVariable_70 ?_
  refine z_istore_n (pc := 71) (lv' := [(3, zI (b0 ||| b1)), (0, zP a0), (1, zI a1), (2, zI a2), (4, zI a4)]) x dX6_hasVariable_71 rfl (Nat.le_of_ble_eq_true rfl) rfl ?_
  refine z_iinc (pc := 72) (lv' := [(4, zI (a4 + (1 : Int32))), (3, zI (b0 ||| b1)), (0, zP a0), (1, zI a1), (2, zI a2)]) x (v2 := (a4 + (1 : Int32))) 4 dX6_hasVariable_72 rfl rfl (Nat.le_of_ble_eq_true rfl) rfl ?_
  refine z_goto (pc := 75) (tgt := 29) x dX6_hasVariable_75 rfl ?_
  exact z_sub [2, 3, 4, 1, 0] rfl (h29 a0 a1 a2 (b0 ||| b1) (a4 + (1 : Int32)))
def s_X6_hasVariable_65 (E : zE) (k29 : Option Nat → Int32 → Int32 → Int32 → Int32 → zM) (a0 : Option Nat) (a1 : Int32) (a2 : Int32) (a4 : Int32) (b0 : Int32) : zM := s_X6_hasVariable_70 E k29 a0 a1 a2 a4 b0 (1 : Int32)
theorem w_X6_hasVariable_65 (x : zCx p l R s m args meth c E D tA cX6_hasVariable 5 yX6_hasVariable.cls 11) (hl : l.stackTraces = false) (hret : meth.sig.returnType = (Option.some Jvm.ClassFile.FieldType.boolean)) (hnm : meth.name = yX6_hasVariable.name) (htab : ∀ z ∈ c.exceptionTable.toList, False) {k29 : Option Nat → Int32 → Int32 → Int32 → Int32 → zM} (h29 : ∀ (a0 : Option Nat) (a1 : Int32) (a2 : Int32) (a3 : Int32) (a4 : Int32) , zW p l e R s m args below meth c E D tA 5 k0 (k29 a0 a1 a2 a3 a4) [(0, zP a0), (1, zI a1), (2, zI a2), (3, zI a3), (4, zI a4)] 29 []) (a0 : Option Nat) (a1 : Int32) (a2 : Int32) (a4 : Int32) (b0 : Int32) : zW p l e R s m args below meth c E D tA 5 k0 (s_X6_hasVariable_65 E k29 a0 a1 a2 a4 b0) [(0, zP a0), (1, zI a1), (2, zI a2), (4, zI a4)] 65 [zI b0] := by
  unfold s_X6_hasVariable_65
  refine z_iconst (pc := 65) x (v := (1 : Int32)) dX6_hasVariable_65 rfl ?_
  refine z_goto (pc := 66) (tgt := 70) x dX6_hasVariable_66 rfl ?_
  exact z_sub [0, 1, 2, 3] rfl (w_X6_hasVariable_70 x hl hret hnm htab h29 a0 a1 a2 a4 b0 (1 : Int32))
def s_X6_hasVariable_29 (E : zE) : Nat → Option Nat → Int32 → Int32 → Int32 → Int32 → zM
  | 0, _, _, _, _, _ => zFail
  | n + 1, a0, a1, a2, a3, a4 => zC (zRv a0 [(34, fun b => s_X6_of E (some b) a1 (3 : Int32))]) zThr (zKI (fun v34 => if v34 ≤ a4 then (zRetN .boolean a3) else (zC (zRv a0 [(34, fun b => s_X6_literal E (some b) a1 a4 (2 : Int32))]) zThr (zKI (fun v46 => if v46 = a2 then (s_X6_hasVariable_65 E (s_X6_hasVariable_29 E n) a0 a1 a2 a4 a3) else (zC (zRv a0 [(34, fun b => s_X6_literal E (some b) a1 a4 (3 : Int32))]) zThr (zKI (fun v58 => if v58 = a2 then (s_X6_hasVariable_65 E (s_X6_hasVariable_29 E n) a0 a1 a2 a4 a3) else (s_X6_hasVariable_70 E (s_X6_hasVariable_29 E n) a0 a1 a2 a4 a3 (0 : Int32))))))))))
theorem w_X6_hasVariable_29 (x : zCx p l R s m args meth c E D tA cX6_hasVariable 5 yX6_hasVariable.cls 11) (hl : l.stackTraces = false) (hret : meth.sig.returnType = (Option.some Jvm.ClassFile.FieldType.boolean)) (hnm : meth.name = yX6_hasVariable.name) (htab : ∀ z ∈ c.exceptionTable.toList, False) : ∀ (n : Nat) (a0 : Option Nat) (a1 : Int32) (a2 : Int32) (a3 : Int32) (a4 : Int32), zW p l e R s m args below meth c E D tA 5 k0 (s_X6_hasVariable_29 E n a0 a1 a2 a3 a4) [(0, zP a0), (1, zI a1), (2, zI a2), (3, zI a3), (4, zI a4)] 29 [] := by
  intro n
  induction n with
  | zero => intro a0 a1 a2 a3 a4; exact z_fail
  | succ n h29 =>
    intro a0 a1 a2 a3 a4
    rw [s_X6_hasVariable_29]
    refine z_iload (pc := 29) x 4 dX6_hasVariable_29 rfl ?_
    refine z_aload_n (pc := 31) x 0 dX6_hasVariable_31 rfl rfl ?_
    refine z_iload_n (pc := 32) x 1 dX6_hasVariable_32 rfl rfl ?_
    refine z_iconst (pc := 33) x (v := (3 : Int32)) dX6_hasVariable_33 rfl ?_
    refine z_call (pc := 34) (z_canV (pc := 34) (As := [zI a1, zI (3 : Int32)]) (st := [zI a4]) x (ci := 34) rfl (fun b => m_X6_of hl (some b) a1 (3 : Int32)) q2939 q2941 (z_selP x (ci := 34) rfl (by decide) (zNi_inst x q2780) q2940 q2941) q121 q2942 n_X6_of ⟨by decide, by decide⟩ (Nat.le_of_ble_eq_true rfl) dX6_hasVariable_34) (zv_I fun v34 => ?_) (fun q => zx_thr x (fun z hz => (htab z hz).elim) q)
    refine z_icmp_ge (pc := 37) (tgt := 78) x dX6_hasVariable_37 rfl (fun _ => ?_) (fun _ => ?_)
    · refine z_iload_n (pc := 78) x 3 dX6_hasVariable_78 rfl rfl ?_
      exact z_zret (pc := 79) x hret dX6_hasVariable_79
    · refine z_iload_n (pc := 40) x 3 dX6_hasVariable_40 rfl rfl ?_
      refine z_aload_n (pc := 41) x 0 dX6_hasVariable_41 rfl rfl ?_
      refine z_iload_n (pc := 42) x 1 dX6_hasVariable_42 rfl rfl ?_
      refine z_iload (pc := 43) x 4 dX6_hasVariable_43 rfl ?_
      refine z_iconst (pc := 45) x (v := (2 : Int32)) dX6_hasVariable_45 rfl ?_
      refine z_call (pc := 46) (z_canV (pc := 46) (As := [zI a1, zI a4, zI (2 : Int32)]) (st := [zI a3]) x (ci := 34) rfl (fun b => m_X6_literal hl (some b) a1 a4 (2 : Int32)) q2943 q2945 (z_selP x (ci := 34) rfl (by decide) (zNi_inst x q2780) q2944 q2945) q121 q2946 n_X6_literal ⟨by decide, by decide⟩ (Nat.le_of_ble_eq_true rfl) dX6_hasVariable_46) (zv_I fun v46 => ?_) (fun q => zx_thr x (fun z hz => (htab z hz).elim) q)
      refine z_iload_n (pc := 49) x 2 dX6_hasVariable_49 rfl rfl ?_
      refine z_icmp_eq (pc := 50) (tgt := 65) x dX6_hasVariable_50 rfl (fun _ => ?_) (fun _ => ?_)
      · exact z_sub [0, 1, 2, 4] rfl (w_X6_hasVariable_65 x hl hret hnm htab h29 a0 a1 a2 a4 a3)
      · refine z_aload_n (pc := 53) x 0 dX6_hasVariable_53 rfl rfl ?_
        refine z_iload_n (pc := 54) x 1 dX6_hasVariable_54 rfl rfl ?_
        refine z_iload (pc := 55) x 4 dX6_hasVariable_55 rfl ?_
        refine z_iconst (pc := 57) x (v := (3 : Int32)) dX6_hasVariable_57 rfl ?_
        refine z_call (pc := 58) (z_canV (pc := 58) (As := [zI a1, zI a4, zI (3 : Int32)]) (st := [zI a3]) x (ci := 34) rfl (fun b => m_X6_literal hl (some b) a1 a4 (3 : Int32)) q2943 q2945 (z_selP x (ci := 34) rfl (by decide) (zNi_inst x q2780) q2944 q2945) q121 q2946 n_X6_literal ⟨by decide, by decide⟩ (Nat.le_of_ble_eq_true rfl) dX6_hasVariable_58) (zv_I fun v58 => ?_) (fun q => zx_thr x (fun z hz => (htab z hz).elim) q)
        refine z_iload_n (pc := 61) x 2 dX6_hasVariable_61 rfl rfl ?_
        refine z_icmp_ne (pc := 62) (tgt := 69) x dX6_hasVariable_62 rfl (fun _ => ?_) (fun _ => ?_)
        · exact z_sub [0, 1, 2, 4] rfl (w_X6_hasVariable_65 x hl hret hnm htab h29 a0 a1 a2 a4 a3)
        · refine z_iconst (pc := 69) x (v := (0 : Int32)) dX6_hasVariable_69 rfl ?_
          exact z_sub [0, 1, 2, 4] rfl (w_X6_hasVariable_70 x hl hret hnm htab h29 a0 a1 a2 a4 a3 (0 : Int32))
def s_X6_hasVariable_25 (E : zE) (a0 : Option Nat) (a1 : Int32) (a2 : Int32) (b0 : Int32) : zM := s_X6_hasVariable_29 E zN a0 a1 a2 b0 (0 : Int32)
theorem w_X6_hasVariable_25 (x : zCx p l R s m args meth c E D tA cX6_hasVariable 5 yX6_hasVariable.cls 11) (hl : l.stackTraces = false) (hret : meth.sig.returnType = (Option.some Jvm.ClassFile.FieldType.boolean)) (hnm : meth.name = yX6_hasVariable.name) (htab : ∀ z ∈ c.exceptionTable.toList, False) (a0 : Option Nat) (a1 : Int32) (a2 : Int32) (b0 : Int32) : zW p l e R s m args below meth c E D tA 5 k0 (s_X6_hasVariable_25 E a0 a1 a2 b0) [(0, zP a0), (1, zI a1), (2, zI a2)] 25 [zI b0] := by
  unfold s_X6_hasVariable_25
  refine z_istore_n (pc := 25) (lv' := [(3, zI b0), (0, zP a0), (1, zI a1), (2, zI a2)]) x dX6_hasVariable_25 rfl (Nat.le_of_ble_eq_true rfl) rfl ?_
  refine z_iconst (pc := 26) x (v := (0 : Int32)) dX6_hasVariable_26 rfl ?_
  refine z_istore (pc := 27) (lv' := [(4, zI (0 : Int32)), (3, zI b0), (0, zP a0), (1, zI a1), (2, zI a2)]) x dX6_hasVariable_27 (Nat.le_of_ble_eq_true rfl) rfl ?_
  exact z_sub [2, 3, 4, 1, 0] rfl (w_X6_hasVariable_29 x hl hret hnm htab zN a0 a1 a2 b0 (0 : Int32))
def s_X6_hasVariable_20 (E : zE) (a0 : Option Nat) (a1 : Int32) (a2 : Int32) : zM := s_X6_hasVariable_25 E a0 a1 a2 (1 : Int32)
theorem w_X6_hasVariable_20 (x : zCx p l R s m args meth c E D tA cX6_hasVariable 5 yX6_hasVariable.cls 11) (hl : l.stackTraces = false) (hret : meth.sig.returnType = (Option.some Jvm.ClassFile.FieldType.boolean)) (hnm : meth.name = yX6_hasVariable.name) (htab : ∀ z ∈ c.exceptionTable.toList, False) (a0 : Option Nat) (a1 : Int32) (a2 : Int32) : zW p l e R s m args below meth c E D tA 5 k0 (s_X6_hasVariable_20 E a0 a1 a2) [(0, zP a0), (1, zI a1), (2, zI a2)] 20 [] := by
  unfold s_X6_hasVariable_20
  refine z_iconst (pc := 20) x (v := (1 : Int32)) dX6_hasVariable_20 rfl ?_
  refine z_goto (pc := 21) (tgt := 25) x dX6_hasVariable_21 rfl ?_
  exact z_sub [0, 1, 2] rfl (w_X6_hasVariable_25 x hl hret hnm htab a0 a1 a2 (1 : Int32))
def s_X6_hasVariable (E : zE) (a0 : Option Nat) (a1 : Int32) (a2 : Int32) : zM := zC (zRv a0 [(34, fun b => s_X6_of E (some b) a1 (1 : Int32))]) zThr (zKI (fun v3 => if v3 = a2 then (s_X6_hasVariable_20 E a0 a1 a2) else (zC (zRv a0 [(34, fun b => s_X6_of E (some b) a1 (2 : Int32))]) zThr (zKI (fun v13 => if v13 = a2 then (s_X6_hasVariable_20 E a0 a1 a2) else (s_X6_hasVariable_25 E a0 a1 a2 (0 : Int32)))))))
theorem m_X6_hasVariable {l : Launch} {E : zE} {D : va_G} {tA : Nat → ClassId} (hl : l.stackTraces = false) (a0 : Option Nat) (a1 : Int32) (a2 : Int32) : zMet l E D tA yX6_hasVariable (ws_ yX6_hasVariable cX6_hasVariable 5 (Option.some Jvm.ClassFile.FieldType.boolean)) 11 (s_X6_hasVariable E a0 a1 a2) [zP a0, zI a1, zI a2] := by
  refine z_met hl (by decide +kernel) (by rw [zSl_len]; exact (Nat.le_of_ble_eq_true rfl)) fun p e R s m args below meth c k0 x hret hnm htab => ?_
  refine z_lv [(0, zP a0), (1, zI a1), (2, zI a2)] rfl ?_
  unfold s_X6_hasVariable
  refine z_aload_n (pc := 0) x 0 dX6_hasVariable_0 rfl rfl ?_
  refine z_iload_n (pc := 1) x 1 dX6_hasVariable_1 rfl rfl ?_
  refine z_iconst (pc := 2) x (v := (1 : Int32)) dX6_hasVariable_2 rfl ?_
  refine z_call (pc := 3) (z_canV (pc := 3) (As := [zI a1, zI (1 : Int32)]) (st := []) x (ci := 34) rfl (fun b => m_X6_of hl (some b) a1 (1 : Int32)) q2939 q2941 (z_selP x (ci := 34) rfl (by decide) (zNi_inst x q2780) q2940 q2941) q121 q2942 n_X6_of ⟨by decide, by decide⟩ (Nat.le_of_ble_eq_true rfl) dX6_hasVariable_3) (zv_I fun v3 => ?_) (fun q => zx_thr x (fun z hz => (htab z hz).elim) q)
  refine z_iload_n (pc := 6) x 2 dX6_hasVariable_6 rfl rfl ?_
  refine z_icmp_eq (pc := 7) (tgt := 20) x dX6_hasVariable_7 rfl (fun _ => ?_) (fun _ => ?_)
  · exact z_sub [0, 1, 2] rfl (w_X6_hasVariable_20 x hl hret hnm htab a0 a1 a2)
  · refine z_aload_n (pc := 10) x 0 dX6_hasVariable_10 rfl rfl ?_
    refine z_iload_n (pc := 11) x 1 dX6_hasVariable_11 rfl rfl ?_
    refine z_iconst (pc := 12) x (v := (2 : Int32)) dX6_hasVariable_12 rfl ?_
    refine z_call (pc := 13) (z_canV (pc := 13) (As := [zI a1, zI (2 : Int32)]) (st := []) x (ci := 34) rfl (fun b => m_X6_of hl (some b) a1 (2 : Int32)) q2939 q2941 (z_selP x (ci := 34) rfl (by decide) (zNi_inst x q2780) q2940 q2941) q121 q2942 n_X6_of ⟨by decide, by decide⟩ (Nat.le_of_ble_eq_true rfl) dX6_hasVariable_13) (zv_I fun v13 => ?_) (fun q => zx_thr x (fun z hz => (htab z hz).elim) q)
    refine z_iload_n (pc := 16) x 2 dX6_hasVariable_16 rfl rfl ?_
    refine z_icmp_ne (pc := 17) (tgt := 24) x dX6_hasVariable_17 rfl (fun _ => ?_) (fun _ => ?_)
    · exact z_sub [0, 1, 2] rfl (w_X6_hasVariable_20 x hl hret hnm htab a0 a1 a2)
    · refine z_iconst (pc := 24) x (v := (0 : Int32)) dX6_hasVariable_24 rfl ?_
      exact z_sub [0, 1, 2] rfl (w_X6_hasVariable_25 x hl hret hnm htab a0 a1 a2 (0 : Int32))
/-! X6_lastOf -/
def s_X6_lastOf (E : zE) (a0 : Option Nat) (a1 : Int32) (a2 : Int32) : zM := zC (zRv a0 [(34, fun b => s_X6_hasVariable E (some b) a1 a2)]) zThr (zKI (fun v3 => if v3 = 0 then (zRet (some (.int (0 : Int32)))) else (zRet (some (.int (9 : Int32))))))
theorem m_X6_lastOf {l : Launch} {E : zE} {D : va_G} {tA : Nat → ClassId} (hl : l.stackTraces = false) (a0 : Option Nat) (a1 : Int32) (a2 : Int32) : zMet l E D tA yX6_lastOf (ws_ yX6_lastOf cX6_lastOf 3 (Option.some Jvm.ClassFile.FieldType.int)) 12 (s_X6_lastOf E a0 a1 a2) [zP a0, zI a1, zI a2] := by
  refine z_met hl (by decide +kernel) (by rw [zSl_len]; exact (Nat.le_of_ble_eq_true rfl)) fun p e R s m args below meth c k0 x hret hnm htab => ?_
  refine z_lv [(0, zP a0), (1, zI a1), (2, zI a2)] rfl ?_
  unfold s_X6_lastOf
  refine z_aload_n (pc := 0) x 0 dX6_lastOf_0 rfl rfl ?_
  refine z_iload_n (pc := 1) x 1 dX6_lastOf_1 rfl rfl ?_
  refine z_iload_n (pc := 2) x 2 dX6_lastOf_2 rfl rfl ?_
  refine z_call (pc := 3) (z_canV (pc := 3) (As := [zI a1, zI a2]) (st := []) x (ci := 34) rfl (fun b => m_X6_hasVariable hl (some b) a1 a2) q2959 q2961 (z_selP x (ci := 34) rfl (by decide) (zNi_inst x q2780) q2960 q2961) q121 q2962 n_X6_hasVariable ⟨by decide, by decide⟩ (Nat.le_of_ble_eq_true rfl) dX6_lastOf_3) (zv_I fun v3 => ?_) (fun q => zx_thr x (fun z hz => (htab z hz).elim) q)
  refine z_if_eq (pc := 6) (tgt := 14) x dX6_lastOf_6 rfl (fun _ => ?_) (fun _ => ?_)
  · refine z_iconst (pc := 14) x (v := (0 : Int32)) dX6_lastOf_14 rfl ?_
    exact z_iret (pc := 15) x hret dX6_lastOf_15
  · refine z_bipush (pc := 9) x (v := (9 : Int32)) dX6_lastOf_9 rfl ?_
    refine z_goto (pc := 11) (tgt := 15) x dX6_lastOf_11 rfl ?_
    exact z_iret (pc := 15) x hret dX6_lastOf_15
/-! X6_isStep -/
def s_X6_isStep (E : zE) (a0 : Option Nat) (a1 : Int32) (a2 : Int32) : zM := zGetR a0 34 8 (fun v1 => zDiv a2 (100 : Int32) (fun v8 => zSaI E 0 v1 (0 : Int32) v8 (zGetR a0 34 8 (fun v11 => zDiv a2 (10 : Int32) (fun v18 => zRem v18 (10 : Int32) (fun v21 => zSaI E 0 v11 (1 : Int32) v21 (zGetR a0 34 8 (fun v24 => zRem a2 (10 : Int32) (fun v31 => zSaI E 0 v24 (2 : Int32) v31 (zGetR a0 34 8 (fun v34 => zGaI 0 v34 (0 : Int32) (fun v38 => zC (zRv a0 [(34, fun b => s_X6_lastOf E (some b) a1 (10 : Int32))]) zThr (zKI (fun v43 => if v43 < v38 then (zRetN .boolean (0 : Int32)) else (zGetR a0 34 8 (fun v50 => zGaI 0 v50 (1 : Int32) (fun v54 => zC (zRv a0 [(34, fun b => s_X6_lastOf E (some b) a1 (11 : Int32))]) zThr (zKI (fun v59 => if v59 < v54 then (zRetN .boolean (0 : Int32)) else (zGetR a0 34 8 (fun v66 => zGaI 0 v66 (2 : Int32) (fun v70 => zC (zRv a0 [(34, fun b => s_X6_lastOf E (some b) a1 (12 : Int32))]) zThr (zKI (fun v75 => if v75 < v70 then (zRetN .boolean (0 : Int32)) else (zRetN .boolean (1 : Int32))))))))))))))))))))))))))
theorem m_X6_isStep {l : Launch} {E : zE} {D : va_G} {tA : Nat → ClassId} (hl : l.stackTraces = false) (a0 : Option Nat) (a1 : Int32) (a2 : Int32) : zMet l E D tA yX6_isStep (ws_ yX6_isStep cX6_isStep 3 (Option.some Jvm.ClassFile.FieldType.boolean)) 13 (s_X6_isStep E a0 a1 a2) [zP a0, zI a1, zI a2] := by
  refine z_met hl (by decide +kernel) (by rw [zSl_len]; exact (Nat.le_of_ble_eq_true rfl)) fun p e R s m args below meth c k0 x hret hnm htab => ?_
  refine z_lv [(0, zP a0), (1, zI a1), (2, zI a2)] rfl ?_
  unfold s_X6_isStep
  refine z_aload_n (pc := 0) x 0 dX6_isStep_0 rfl rfl ?_
  refine z_get (pc := 1) (fun _ _ h => zAsR_eq h) x in_X6 (ci := 34) rfl (k := 8) (by decide) q2793 (fun _ h => h) dX6_isStep_1 fun v1 => ?_
  refine z_iconst (pc := 4) x (v := (0 : Int32)) dX6_isStep_4 rfl ?_
  refine z_iload_n (pc := 5) x 2 dX6_isStep_5 rfl rfl ?_
  refine z_bipush (pc := 6) x (v := (100 : Int32)) dX6_isStep_6 rfl ?_
  refine z_idiv (pc := 8) x dX6_isStep_8 fun v8 => ?_
  refine z_iast (pc := 9) x (t := 0) rfl dX6_isStep_9 ?_
  refine z_aload_n (pc := 10) x 0 dX6_isStep_10 rfl rfl ?_
  refine z_get (pc := 11) (fun _ _ h => zAsR_eq h) x in_X6 (ci := 34) rfl (k := 8) (by decide) q2793 (fun _ h => h) dX6_isStep_11 fun v11 => ?_
  refine z_iconst (pc := 14) x (v := (1 : Int32)) dX6_isStep_14 rfl ?_
  refine z_iload_n (pc := 15) x 2 dX6_isStep_15 rfl rfl ?_
  refine z_bipush (pc := 16) x (v := (10 : Int32)) dX6_isStep_16 rfl ?_
  refine z_idiv (pc := 18) x dX6_isStep_18 fun v18 => ?_
  refine z_bipush (pc := 19) x (v := (10 : Int32)) dX6_isStep_19 rfl ?_
  refine z_irem (pc := 21) x dX6_isStep_21 fun v21 => ?_
  refine z_iast (pc := 22) x (t := 0) rfl dX6_isStep_22 ?_
  refine z_aload_n (pc := 23) x 0 dX6_isStep_23 rfl rfl ?_
  refine z_get (pc := 24) (fun _ _ h => zAsR_eq h) x in_X6 (ci := 34) rfl (k := 8) (by decide) q2793 (fun _ h => h) dX6_isStep_24 fun v24 => ?_
  refine z_iconst (pc := 27) x (v := (2 : Int32)) dX6_isStep_27 rfl ?_
  refine z_iload_n (pc := 28) x 2 dX6_isStep_28 rfl rfl ?_
  refine z_bipush (pc := 29) x (v := (10 : Int32)) dX6_isStep_29 rfl ?_
  refine z_irem (pc := 31) x dX6_isStep_31 fun v31 => ?_
  refine z_iast (pc := 32) x (t := 0) rfl dX6_isStep_32 ?_
  refine z_aload_n (pc := 33) x 0 dX6_isStep_33 rfl rfl ?_
  refine z_get (pc := 34) (fun _ _ h => zAsR_eq h) x in_X6 (ci := 34) rfl (k := 8) (by decide) q2793 (fun _ h => h) dX6_isStep_34 fun v34 => ?_
  refine z_iconst (pc := 37) x (v := (0 : Int32)) dX6_isStep_37 rfl ?_
  refine z_iald (pc := 38) x (t := 0) rfl dX6_isStep_38 fun v38 => ?_
  refine z_aload_n (pc := 39) x 0 dX6_isStep_39 rfl rfl ?_
  refine z_iload_n (pc := 40) x 1 dX6_isStep_40 rfl rfl ?_
  refine z_bipush (pc := 41) x (v := (10 : Int32)) dX6_isStep_41 rfl ?_
  refine z_call (pc := 43) (z_canV (pc := 43) (As := [zI a1, zI (10 : Int32)]) (st := [zI v38]) x (ci := 34) rfl (fun b => m_X6_lastOf hl (some b) a1 (10 : Int32)) q2955 q2957 (z_selP x (ci := 34) rfl (by decide) (zNi_inst x q2780) q2956 q2957) q121 q2958 n_X6_lastOf ⟨by decide, by decide⟩ (Nat.le_of_ble_eq_true rfl) dX6_isStep_43) (zv_I fun v43 => ?_) (fun q => zx_thr x (fun z hz => (htab z hz).elim) q)
  refine z_icmp_gt (pc := 46) (tgt := 85) x dX6_isStep_46 rfl (fun _ => ?_) (fun _ => ?_)
  · refine z_iconst (pc := 85) x (v := (0 : Int32)) dX6_isStep_85 rfl ?_
    exact z_zret (pc := 86) x hret dX6_isStep_86
  · refine z_aload_n (pc := 49) x 0 dX6_isStep_49 rfl rfl ?_
    refine z_get (pc := 50) (fun _ _ h => zAsR_eq h) x in_X6 (ci := 34) rfl (k := 8) (by decide) q2793 (fun _ h => h) dX6_isStep_50 fun v50 => ?_
    refine z_iconst (pc := 53) x (v := (1 : Int32)) dX6_isStep_53 rfl ?_
    refine z_iald (pc := 54) x (t := 0) rfl dX6_isStep_54 fun v54 => ?_
    refine z_aload_n (pc := 55) x 0 dX6_isStep_55 rfl rfl ?_
    refine z_iload_n (pc := 56) x 1 dX6_isStep_56 rfl rfl ?_
    refine z_bipush (pc := 57) x (v := (11 : Int32)) dX6_isStep_57 rfl ?_
    refine z_call (pc := 59) (z_canV (pc := 59) (As := [zI a1, zI (11 : Int32)]) (st := [zI v54]) x (ci := 34) rfl (fun b => m_X6_lastOf hl (some b) a1 (11 : Int32)) q2955 q2957 (z_selP x (ci := 34) rfl (by decide) (zNi_inst x q2780) q2956 q2957) q121 q2958 n_X6_lastOf ⟨by decide, by decide⟩ (Nat.le_of_ble_eq_true rfl) dX6_isStep_59) (zv_I fun v59 => ?_) (fun q => zx_thr x (fun z hz => (htab z hz).elim) q)
    refine z_icmp_gt (pc := 62) (tgt := 85) x dX6_isStep_62 rfl (fun _ => ?_) (fun _ => ?_)
    · refine z_iconst (pc := 85) x (v := (0 : Int32)) dX6_isStep_85 rfl ?_
      exact z_zret (pc := 86) x hret dX6_isStep_86
    · refine z_aload_n (pc := 65) x 0 dX6_isStep_65 rfl rfl ?_
      refine z_get (pc := 66) (fun _ _ h => zAsR_eq h) x in_X6 (ci := 34) rfl (k := 8) (by decide) q2793 (fun _ h => h) dX6_isStep_66 fun v66 => ?_
      refine z_iconst (pc := 69) x (v := (2 : Int32)) dX6_isStep_69 rfl ?_
      refine z_iald (pc := 70) x (t := 0) rfl dX6_isStep_70 fun v70 => ?_
      refine z_aload_n (pc := 71) x 0 dX6_isStep_71 rfl rfl ?_
      refine z_iload_n (pc := 72) x 1 dX6_isStep_72 rfl rfl ?_
      refine z_bipush (pc := 73) x (v := (12 : Int32)) dX6_isStep_73 rfl ?_
      refine z_call (pc := 75) (z_canV (pc := 75) (As := [zI a1, zI (12 : Int32)]) (st := [zI v70]) x (ci := 34) rfl (fun b => m_X6_lastOf hl (some b) a1 (12 : Int32)) q2955 q2957 (z_selP x (ci := 34) rfl (by decide) (zNi_inst x q2780) q2956 q2957) q121 q2958 n_X6_lastOf ⟨by decide, by decide⟩ (Nat.le_of_ble_eq_true rfl) dX6_isStep_75) (zv_I fun v75 => ?_) (fun q => zx_thr x (fun z hz => (htab z hz).elim) q)
      refine z_icmp_gt (pc := 78) (tgt := 85) x dX6_isStep_78 rfl (fun _ => ?_) (fun _ => ?_)
      · refine z_iconst (pc := 85) x (v := (0 : Int32)) dX6_isStep_85 rfl ?_
        exact z_zret (pc := 86) x hret dX6_isStep_86
      · refine z_iconst (pc := 81) x (v := (1 : Int32)) dX6_isStep_81 rfl ?_
        refine z_goto (pc := 82) (tgt := 86) x dX6_isStep_82 rfl ?_
        exact z_zret (pc := 86) x hret dX6_isStep_86
/-! X6_constant -/
def s_X6_constant (E : zE) (a0 : Option Nat) (a1 : Int32) : zM := if a1 ≤ (9 : Int32) then (zRet (some (.int a1))) else (zGetR a0 34 8 (fun v7 => zGaI 0 v7 (a1 - (10 : Int32)) (fun v14 => zRet (some (.int v14)))))
theorem m_X6_constant {l : Launch} {E : zE} {D : va_G} {tA : Nat → ClassId} (hl : l.stackTraces = false) (a0 : Option Nat) (a1 : Int32) : zMet l E D tA yX6_constant (ws_ yX6_constant cX6_constant 2 (Option.some Jvm.ClassFile.FieldType.int)) 9 (s_X6_constant E a0 a1) [zP a0, zI a1] := by
  refine z_met hl (by decide +kernel) (by rw [zSl_len]; exact (Nat.le_of_ble_eq_true rfl)) fun p e R s m args below meth c k0 x hret hnm htab => ?_
  refine z_lv [(0, zP a0), (1, zI a1)] rfl ?_
  unfold s_X6_constant
  refine z_iload_n (pc := 0) x 1 dX6_constant_0 rfl rfl ?_
  refine z_bipush (pc := 1) x (v := (9 : Int32)) dX6_constant_1 rfl ?_
  refine z_icmp_le (pc := 3) (tgt := 18) x dX6_constant_3 rfl (fun _ => ?_) (fun _ => ?_)
  · refine z_iload_n (pc := 18) x 1 dX6_constant_18 rfl rfl ?_
    exact z_iret (pc := 19) x hret dX6_constant_19
  · refine z_aload_n (pc := 6) x 0 dX6_constant_6 rfl rfl ?_
    refine z_get (pc := 7) (fun _ _ h => zAsR_eq h) x in_X6 (ci := 34) rfl (k := 8) (by decide) q2793 (fun _ h => h) dX6_constant_7 fun v7 => ?_
    refine z_iload_n (pc := 10) x 1 dX6_constant_10 rfl rfl ?_
    refine z_bipush (pc := 11) x (v := (10 : Int32)) dX6_constant_11 rfl ?_
    refine z_isub (pc := 13) x dX6_constant_13 ?_
    refine z_iald (pc := 14) x (t := 0) rfl dX6_constant_14 fun v14 => ?_
    refine z_goto (pc := 15) (tgt := 19) x dX6_constant_15 rfl ?_
    exact z_iret (pc := 19) x hret dX6_constant_19
/-! X6_factOfLiteral -/
def s_X6_factOfLiteral (E : zE) (a0 : Option Nat) (a1 : Int32) (a2 : Int32) : zM := zC (zRv a0 [(34, fun b => s_X6_literal E (some b) a1 a2 (1 : Int32))]) zThr (zKI (fun v4 => zC (zRv a0 [(34, fun b => s_X6_literal E (some b) a1 a2 (2 : Int32))]) zThr (zKI (fun v12 => zC (zRv a0 [(34, fun b => s_X6_constant E (some b) v12)]) zThr (zKI (fun v15 => zC (zRv a0 [(34, fun b => s_X6_literal E (some b) a1 a2 (3 : Int32))]) zThr (zKI (fun v23 => zC (zRv a0 [(34, fun b => s_X6_constant E (some b) v23)]) zThr (zKI (fun v26 => zC (s_X6_fact E v4 v15 v26) zThr (zKI (fun v29 => zRet (some (.int v29))))))))))))))
theorem m_X6_factOfLiteral {l : Launch} {E : zE} {D : va_G} {tA : Nat → ClassId} (hl : l.stackTraces = false) (a0 : Option Nat) (a1 : Int32) (a2 : Int32) : zMet l E D tA yX6_factOfLiteral (ws_ yX6_factOfLiteral cX6_factOfLiteral 3 (Option.some Jvm.ClassFile.FieldType.int)) 11 (s_X6_factOfLiteral E a0 a1 a2) [zP a0, zI a1, zI a2] := by
  refine z_met hl (by decide +kernel) (by rw [zSl_len]; exact (Nat.le_of_ble_eq_true rfl)) fun p e R s m args below meth c k0 x hret hnm htab => ?_
  refine z_lv [(0, zP a0), (1, zI a1), (2, zI a2)] rfl ?_
  unfold s_X6_factOfLiteral
  refine z_aload_n (pc := 0) x 0 dX6_factOfLiteral_0 rfl rfl ?_
  refine z_iload_n (pc := 1) x 1 dX6_factOfLiteral_1 rfl rfl ?_
  refine z_iload_n (pc := 2) x 2 dX6_factOfLiteral_2 rfl rfl ?_
  refine z_iconst (pc := 3) x (v := (1 : Int32)) dX6_factOfLiteral_3 rfl ?_
  refine z_call (pc := 4) (z_canV (pc := 4) (As := [zI a1, zI a2, zI (1 : Int32)]) (st := []) x (ci := 34) rfl (fun b => m_X6_literal hl (some b) a1 a2 (1 : Int32)) q2943 q2945 (z_selP x (ci := 34) rfl (by decide) (zNi_inst x q2780) q2944 q2945) q121 q2946 n_X6_literal ⟨by decide, by decide⟩ (Nat.le_of_ble_eq_true rfl) dX6_factOfLiteral_4) (zv_I fun v4 => ?_) (fun q => zx_thr x (fun z hz => (htab z hz).elim) q)
  refine z_aload_n (pc := 7) x 0 dX6_factOfLiteral_7 rfl rfl ?_
  refine z_aload_n (pc := 8) x 0 dX6_factOfLiteral_8 rfl rfl ?_
  refine z_iload_n (pc := 9) x 1 dX6_factOfLiteral_9 rfl rfl ?_
  refine z_iload_n (pc := 10) x 2 dX6_factOfLiteral_10 rfl rfl ?_
  refine z_iconst (pc := 11) x (v := (2 : Int32)) dX6_factOfLiteral_11 rfl ?_
  refine z_call (pc := 12) (z_canV (pc := 12) (As := [zI a1, zI a2, zI (2 : Int32)]) (st := [zP a0, zI v4]) x (ci := 34) rfl (fun b => m_X6_literal hl (some b) a1 a2 (2 : Int32)) q2943 q2945 (z_selP x (ci := 34) rfl (by decide) (zNi_inst x q2780) q2944 q2945) q121 q2946 n_X6_literal ⟨by decide, by decide⟩ (Nat.le_of_ble_eq_true rfl) dX6_factOfLiteral_12) (zv_I fun v12 => ?_) (fun q => zx_thr x (fun z hz => (htab z hz).elim) q)
  refine z_call (pc := 15) (z_canV (pc := 15) (As := [zI v12]) (st := [zI v4]) x (ci := 34) rfl (fun b => m_X6_constant hl (some b) v12) q2971 q2973 (z_selP x (ci := 34) rfl (by decide) (zNi_inst x q2780) q2972 q2973) q121 q2974 n_X6_constant ⟨by decide, by decide⟩ (Nat.le_of_ble_eq_true rfl) dX6_factOfLiteral_15) (zv_I fun v15 => ?_) (fun q => zx_thr x (fun z hz => (htab z hz).elim) q)
  refine z_aload_n (pc := 18) x 0 dX6_factOfLiteral_18 rfl rfl ?_
  refine z_aload_n (pc := 19) x 0 dX6_factOfLiteral_19 rfl rfl ?_
  refine z_iload_n (pc := 20) x 1 dX6_factOfLiteral_20 rfl rfl ?_
  refine z_iload_n (pc := 21) x 2 dX6_factOfLiteral_21 rfl rfl ?_
  refine z_iconst (pc := 22) x (v := (3 : Int32)) dX6_factOfLiteral_22 rfl ?_
  refine z_call (pc := 23) (z_canV (pc := 23) (As := [zI a1, zI a2, zI (3 : Int32)]) (st := [zP a0, zI v15, zI v4]) x (ci := 34) rfl (fun b => m_X6_literal hl (some b) a1 a2 (3 : Int32)) q2943 q2945 (z_selP x (ci := 34) rfl (by decide) (zNi_inst x q2780) q2944 q2945) q121 q2946 n_X6_literal ⟨by decide, by decide⟩ (Nat.le_of_ble_eq_true rfl) dX6_factOfLiteral_23) (zv_I fun v23 => ?_) (fun q => zx_thr x (fun z hz => (htab z hz).elim) q)
  refine z_call (pc := 26) (z_canV (pc := 26) (As := [zI v23]) (st := [zI v15, zI v4]) x (ci := 34) rfl (fun b => m_X6_constant hl (some b) v23) q2971 q2973 (z_selP x (ci := 34) rfl (by decide) (zNi_inst x q2780) q2972 q2973) q121 q2974 n_X6_constant ⟨by decide, by decide⟩ (Nat.le_of_ble_eq_true rfl) dX6_factOfLiteral_26) (zv_I fun v26 => ?_) (fun q => zx_thr x (fun z hz => (htab z hz).elim) q)
  refine z_call (pc := 29) (z_canS (pc := 29) (As := [zI v4, zI v15, zI v26]) (st := []) x (m_X6_fact hl v4 v15 v26) q2905 q2906 q121 q2907 n_X6_fact ⟨by decide, by decide⟩ (Nat.le_of_ble_eq_true rfl) dX6_factOfLiteral_29) (zv_I fun v29 => ?_) (fun q => zx_thr x (fun z hz => (htab z hz).elim) q)
  exact z_iret (pc := 32) x hret dX6_factOfLiteral_32
/-! X6_holds -/
def s_X6_holds (E : zE) (a0 : Option Nat) (a1 : Int32) (a2 : Int32) : zM := zC (zRv a0 [(34, fun b => s_X6_literal E (some b) a1 a2 (2 : Int32))]) zThr (zKI (fun v5 => zC (zRv a0 [(34, fun b => s_X6_constant E (some b) v5)]) zThr (zKI (fun v8 => zC (zRv a0 [(34, fun b => s_X6_literal E (some b) a1 a2 (3 : Int32))]) zThr (zKI (fun v17 => zC (zRv a0 [(34, fun b => s_X6_constant E (some b) v17)]) zThr (zKI (fun v20 => zC (zRv a0 [(34, fun b => s_X6_literal E (some b) a1 a2 (0 : Int32))]) zThr (zKI (fun v29 => if v29 = (0 : Int32) then (zGetR a0 34 9 (fun v61 => zC (zRv a0 [(34, fun b => s_X6_factOfLiteral E (some b) a1 a2)]) zThr (zKI (fun v67 => zGaI 2 v61 v67 (fun v70 => zRetN .boolean v70))))) else (if v29 = (1 : Int32) then (zGetR a0 34 9 (fun v73 => zC (zRv a0 [(34, fun b => s_X6_factOfLiteral E (some b) a1 a2)]) zThr (zKI (fun v79 => zGaI 2 v73 v79 (fun v82 => if v82 = 0 then (zRetN .boolean (1 : Int32)) else (zRetN .boolean (0 : Int32))))))) else (if v29 = (2 : Int32) then (if v20 ≤ v8 then (zRetN .boolean (0 : Int32)) else (zRetN .boolean (1 : Int32))) else (if v8 = v20 then (zRetN .boolean (1 : Int32)) else (zRetN .boolean (0 : Int32)))))))))))))))
theorem m_X6_holds {l : Launch} {E : zE} {D : va_G} {tA : Nat → ClassId} (hl : l.stackTraces = false) (a0 : Option Nat) (a1 : Int32) (a2 : Int32) : zMet l E D tA yX6_holds (ws_ yX6_holds cX6_holds 5 (Option.some Jvm.ClassFile.FieldType.boolean)) 12 (s_X6_holds E a0 a1 a2) [zP a0, zI a1, zI a2] := by
  refine z_met hl (by decide +kernel) (by rw [zSl_len]; exact (Nat.le_of_ble_eq_true rfl)) fun p e R s m args below meth c k0 x hret hnm htab => ?_
  refine z_lv [(0, zP a0), (1, zI a1), (2, zI a2)] rfl ?_
  unfold s_X6_holds
  refine z_aload_n (pc := 0) x 0 dX6_holds_0 rfl rfl ?_
  refine z_aload_n (pc := 1) x 0 dX6_holds_1 rfl rfl ?_
  refine z_iload_n (pc := 2) x 1 dX6_holds_2 rfl rfl ?_
  refine z_iload_n (pc := 3) x 2 dX6_holds_3 rfl rfl ?_
  refine z_iconst (pc := 4) x (v := (2 : Int32)) dX6_holds_4 rfl ?_
  refine z_call (pc := 5) (z_canV (pc := 5) (As := [zI a1, zI a2, zI (2 : Int32)]) (st := [zP a0]) x (ci := 34) rfl (fun b => m_X6_literal hl (some b) a1 a2 (2 : Int32)) q2943 q2945 (z_selP x (ci := 34) rfl (by decide) (zNi_inst x q2780) q2944 q2945) q121 q2946 n_X6_literal ⟨by decide, by decide⟩ (Nat.le_of_ble_eq_true rfl) dX6_holds_5) (zv_I fun v5 => ?_) (fun q => zx_thr x (fun z hz => (htab z hz).elim) q)
  refine z_call (pc := 8) (z_canV (pc := 8) (As := [zI v5]) (st := []) x (ci := 34) rfl (fun b => m_X6_constant hl (some b) v5) q2971 q2973 (z_selP x (ci := 34) rfl (by decide) (zNi_inst x q2780) q2972 q2973) q121 q2974 n_X6_constant ⟨by decide, by decide⟩ (Nat.le_of_ble_eq_true rfl) dX6_holds_8) (zv_I fun v8 => ?_) (fun q => zx_thr x (fun z hz => (htab z hz).elim) q)
  refine z_istore_n (pc := 11) (lv' := [(3, zI v8), (0, zP a0), (1, zI a1), (2, zI a2)]) x dX6_holds_11 rfl (Nat.le_of_ble_eq_true rfl) rfl ?_
  refine z_aload_n (pc := 12) x 1 dX6_holds_12 rfl rfl ?_
  refine z_aload_n (pc := 13) x 1 dX6_holds_13 rfl rfl ?_
  refine z_iload_n (pc := 14) x 2 dX6_holds_14 rfl rfl ?_
  refine z_iload_n (pc := 15) x 3 dX6_holds_15 rfl rfl ?_
  refine z_iconst (pc := 16) x (v := (3 : Int32)) dX6_holds_16 rfl ?_
  refine z_call (pc := 17) (z_canV (pc := 17) (As := [zI a1, zI a2, zI (3 : Int32)]) (st := [zP a0]) x (ci := 34) rfl (fun b => m_X6_literal hl (some b) a1 a2 (3 : Int32)) q2943 q2945 (z_selP x (ci := 34) rfl (by decide) (zNi_inst x q2780) q2944 q2945) q121 q2946 n_X6_literal ⟨by decide, by decide⟩ (Nat.le_of_ble_eq_true rfl) dX6_holds_17) (zv_I fun v17 => ?_) (fun q => zx_thr x (fun z hz => (htab z hz).elim) q)
  refine z_call (pc := 20) (z_canV (pc := 20) (As := [zI v17]) (st := []) x (ci := 34) rfl (fun b => m_X6_constant hl (some b) v17) q2971 q2973 (z_selP x (ci := 34) rfl (by decide) (zNi_inst x q2780) q2972 q2973) q121 q2974 n_X6_constant ⟨by decide, by decide⟩ (Nat.le_of_ble_eq_true rfl) dX6_holds_20) (zv_I fun v20 => ?_) (fun q => zx_thr x (fun z hz => (htab z hz).elim) q)
  refine z_istore (pc := 23) (lv' := [(4, zI v20), (3, zI v8), (0, zP a0), (1, zI a1), (2, zI a2)]) x dX6_holds_23 (Nat.le_of_ble_eq_true rfl) rfl ?_
  refine z_aload_n (pc := 25) x 2 dX6_holds_25 rfl rfl ?_
  refine z_iload_n (pc := 26) x 3 dX6_holds_26 rfl rfl ?_
  refine z_iload_n (pc := 27) x 4 dX6_holds_27 rfl rfl ?_
  refine z_iconst (pc := 28) x (v := (0 : Int32)) dX6_holds_28 rfl ?_
  refine z_call (pc := 29) (z_canV (pc := 29) (As := [zI a1, zI a2, zI (0 : Int32)]) (st := []) x (ci := 34) rfl (fun b => m_X6_literal hl (some b) a1 a2 (0 : Int32)) q2943 q2945 (z_selP x (ci := 34) rfl (by decide) (zNi_inst x q2780) q2944 q2945) q121 q2946 n_X6_literal ⟨by decide, by decide⟩ (Nat.le_of_ble_eq_true rfl) dX6_holds_29) (zv_I fun v29 => ?_) (fun q => zx_thr x (fun z hz => (htab z hz).elim) q)
  refine z_ite (fun e32_1 => ?_) (fun e32_1 => ?_)
  · refine z_tabIn (pc := 32) (tgt := 60) x (28) dX6_holds_32 e32_1 (by decide) (by decide) rfl rfl ?_
    refine z_aload_n (pc := 60) x 2 dX6_holds_60 rfl rfl ?_
    refine z_get (pc := 61) (fun _ _ h => zAsR_eq h) x in_X6 (ci := 34) rfl (k := 9) (by decide) q2794 (fun _ h => h) dX6_holds_61 fun v61 => ?_
    refine z_aload_n (pc := 64) x 2 dX6_holds_64 rfl rfl ?_
    refine z_iload_n (pc := 65) x 3 dX6_holds_65 rfl rfl ?_
    refine z_iload_n (pc := 66) x 4 dX6_holds_66 rfl rfl ?_
    refine z_call (pc := 67) (z_canV (pc := 67) (As := [zI a1, zI a2]) (st := [zP v61]) x (ci := 34) rfl (fun b => m_X6_factOfLiteral hl (some b) a1 a2) q2975 q2977 (z_selP x (ci := 34) rfl (by decide) (zNi_inst x q2780) q2976 q2977) q121 q2978 n_X6_factOfLiteral ⟨by decide, by decide⟩ (Nat.le_of_ble_eq_true rfl) dX6_holds_67) (zv_I fun v67 => ?_) (fun q => zx_thr x (fun z hz => (htab z hz).elim) q)
    refine z_zald (pc := 70) x (t := 2) rfl dX6_holds_70 fun v70 => ?_
    exact z_zret (pc := 71) x hret dX6_holds_71
  refine z_ite (fun e32_2 => ?_) (fun e32_2 => ?_)
  · refine z_tabIn (pc := 32) (tgt := 72) x (40) dX6_holds_32 e32_2 (by decide) (by decide) rfl rfl ?_
    refine z_aload_n (pc := 72) x 2 dX6_holds_72 rfl rfl ?_
    refine z_get (pc := 73) (fun _ _ h => zAsR_eq h) x in_X6 (ci := 34) rfl (k := 9) (by decide) q2794 (fun _ h => h) dX6_holds_73 fun v73 => ?_
    refine z_aload_n (pc := 76) x 2 dX6_holds_76 rfl rfl ?_
    refine z_iload_n (pc := 77) x 3 dX6_holds_77 rfl rfl ?_
    refine z_iload_n (pc := 78) x 4 dX6_holds_78 rfl rfl ?_
    refine z_call (pc := 79) (z_canV (pc := 79) (As := [zI a1, zI a2]) (st := [zP v73]) x (ci := 34) rfl (fun b => m_X6_factOfLiteral hl (some b) a1 a2) q2975 q2977 (z_selP x (ci := 34) rfl (by decide) (zNi_inst x q2780) q2976 q2977) q121 q2978 n_X6_factOfLiteral ⟨by decide, by decide⟩ (Nat.le_of_ble_eq_true rfl) dX6_holds_79) (zv_I fun v79 => ?_) (fun q => zx_thr x (fun z hz => (htab z hz).elim) q)
    refine z_zald (pc := 82) x (t := 2) rfl dX6_holds_82 fun v82 => ?_
    refine z_if_ne (pc := 83) (tgt := 90) x dX6_holds_83 rfl (fun _ => ?_) (fun _ => ?_)
    · refine z_iconst (pc := 86) x (v := (1 : Int32)) dX6_holds_86 rfl ?_
      refine z_goto (pc := 87) (tgt := 91) x dX6_holds_87 rfl ?_
      exact z_zret (pc := 91) x hret dX6_holds_91
    · refine z_iconst (pc := 90) x (v := (0 : Int32)) dX6_holds_90 rfl ?_
      exact z_zret (pc := 91) x hret dX6_holds_91
  refine z_ite (fun e32_3 => ?_) (fun e32_3 => ?_)
  · refine z_tabIn (pc := 32) (tgt := 92) x (60) dX6_holds_32 e32_3 (by decide) (by decide) rfl rfl ?_
    refine z_iload_n (pc := 92) x 1 dX6_holds_92 rfl rfl ?_
    refine z_iload (pc := 93) x 0 dX6_holds_93 rfl ?_
    refine z_icmp_ge (pc := 95) (tgt := 102) x dX6_holds_95 rfl (fun _ => ?_) (fun _ => ?_)
    · refine z_iconst (pc := 102) x (v := (0 : Int32)) dX6_holds_102 rfl ?_
      exact z_zret (pc := 103) x hret dX6_holds_103
    · refine z_iconst (pc := 98) x (v := (1 : Int32)) dX6_holds_98 rfl ?_
      refine z_goto (pc := 99) (tgt := 103) x dX6_holds_99 rfl ?_
      exact z_zret (pc := 103) x hret dX6_holds_103
  refine z_tabOut (pc := 32) (tgt := 104) x dX6_holds_32 (by have f1 := lv_neT (a := 0) e32_1 rfl; have f2 := lv_neT (a := 1) e32_2 rfl; have f3 := lv_neT (a := 2) e32_3 rfl; omega) rfl ?_
  refine z_iload_n (pc := 104) x 1 dX6_holds_104 rfl rfl ?_
  refine z_iload (pc := 105) x 0 dX6_holds_105 rfl ?_
  refine z_icmp_ne (pc := 107) (tgt := 114) x dX6_holds_107 rfl (fun _ => ?_) (fun _ => ?_)
  · refine z_iconst (pc := 110) x (v := (1 : Int32)) dX6_holds_110 rfl ?_
    refine z_goto (pc := 111) (tgt := 115) x dX6_holds_111 rfl ?_
    exact z_zret (pc := 115) x hret dX6_holds_115
  · refine z_iconst (pc := 114) x (v := (0 : Int32)) dX6_holds_114 rfl ?_
    exact z_zret (pc := 115) x hret dX6_holds_115
/-! X6_holdsAll -/
def s_X6_holdsAll_2 (E : zE) : Nat → Option Nat → Int32 → Int32 → zM
  | 0, _, _, _ => zFail
  | n + 1, a0, a1, a2 => zC (zRv a0 [(34, fun b => s_X6_of E (some b) a1 (3 : Int32))]) zThr (zKI (fun v6 => if v6 ≤ a2 then (zRetN .boolean (1 : Int32)) else (zC (zRv a0 [(34, fun b => s_X6_holds E (some b) a1 a2)]) zThr (zKI (fun v15 => if v15 = 0 then (zRetN .boolean (0 : Int32)) else ((s_X6_holdsAll_2 E n) a0 a1 (a2 + (1 : Int32))))))))
theorem w_X6_holdsAll_2 (x : zCx p l R s m args meth c E D tA cX6_holdsAll 3 yX6_holdsAll.cls 13) (hl : l.stackTraces = false) (hret : meth.sig.returnType = (Option.some Jvm.ClassFile.FieldType.boolean)) (hnm : meth.name = yX6_holdsAll.name) (htab : ∀ z ∈ c.exceptionTable.toList, False) : ∀ (n : Nat) (a0 : Option Nat) (a1 : Int32) (a2 : Int32), zW p l e R s m args below meth c E D tA 3 k0 (s_X6_holdsAll_2 E n a0 a1 a2) [(0, zP a0), (1, zI a1), (2, zI a2)] 2 [] := by
  intro n
  induction n with
  | zero => intro a0 a1 a2; exact z_fail
  | succ n h2 =>
    intro a0 a1 a2
    rw [s_X6_holdsAll_2]
    refine z_iload_n (pc := 2) x 2 dX6_holdsAll_2 rfl rfl ?_
    refine z_aload_n (pc := 3) x 0 dX6_holdsAll_3 rfl rfl ?_
    refine z_iload_n (pc := 4) x 1 dX6_holdsAll_4 rfl rfl ?_
    refine z_iconst (pc := 5) x (v := (3 : Int32)) dX6_holdsAll_5 rfl ?_
    refine z_call (pc := 6) (z_canV (pc := 6) (As := [zI a1, zI (3 : Int32)]) (st := [zI a2]) x (ci := 34) rfl (fun b => m_X6_of hl (some b) a1 (3 : Int32)) q2939 q2941 (z_selP x (ci := 34) rfl (by decide) (zNi_inst x q2780) q2940 q2941) q121 q2942 n_X6_of ⟨by decide, by decide⟩ (Nat.le_of_ble_eq_true rfl) dX6_holdsAll_6) (zv_I fun v6 => ?_) (fun q => zx_thr x (fun z hz => (htab z hz).elim) q)
    refine z_icmp_ge (pc := 9) (tgt := 29) x dX6_holdsAll_9 rfl (fun _ => ?_) (fun _ => ?_)
    · refine z_iconst (pc := 29) x (v := (1 : Int32)) dX6_holdsAll_29 rfl ?_
      exact z_zret (pc := 30) x hret dX6_holdsAll_30
    · refine z_aload_n (pc := 12) x 0 dX6_holdsAll_12 rfl rfl ?_
      refine z_iload_n (pc := 13) x 1 dX6_holdsAll_13 rfl rfl ?_
      refine z_iload_n (pc := 14) x 2 dX6_holdsAll_14 rfl rfl ?_
      refine z_call (pc := 15) (z_canV (pc := 15) (As := [zI a1, zI a2]) (st := []) x (ci := 34) rfl (fun b => m_X6_holds hl (some b) a1 a2) q2967 q2969 (z_selP x (ci := 34) rfl (by decide) (zNi_inst x q2780) q2968 q2969) q121 q2970 n_X6_holds ⟨by decide, by decide⟩ (Nat.le_of_ble_eq_true rfl) dX6_holdsAll_15) (zv_I fun v15 => ?_) (fun q => zx_thr x (fun z hz => (htab z hz).elim) q)
      refine z_if_ne (pc := 18) (tgt := 23) x dX6_holdsAll_18 rfl (fun _ => ?_) (fun _ => ?_)
      · refine z_iconst (pc := 21) x (v := (0 : Int32)) dX6_holdsAll_21 rfl ?_
        exact z_zret (pc := 22) x hret dX6_holdsAll_22
      · refine z_iinc (pc := 23) (lv' := [(2, zI (a2 + (1 : Int32))), (0, zP a0), (1, zI a1)]) x (v2 := (a2 + (1 : Int32))) 2 dX6_holdsAll_23 rfl rfl (Nat.le_of_ble_eq_true rfl) rfl ?_
        refine z_goto (pc := 26) (tgt := 2) x dX6_holdsAll_26 rfl ?_
        exact z_sub [1, 2, 0] rfl (h2 a0 a1 (a2 + (1 : Int32)))
def s_X6_holdsAll (E : zE) (a0 : Option Nat) (a1 : Int32) : zM := s_X6_holdsAll_2 E zN a0 a1 (0 : Int32)
theorem m_X6_holdsAll {l : Launch} {E : zE} {D : va_G} {tA : Nat → ClassId} (hl : l.stackTraces = false) (a0 : Option Nat) (a1 : Int32) : zMet l E D tA yX6_holdsAll (ws_ yX6_holdsAll cX6_holdsAll 3 (Option.some Jvm.ClassFile.FieldType.boolean)) 13 (s_X6_holdsAll E a0 a1) [zP a0, zI a1] := by
  refine z_met hl (by decide +kernel) (by rw [zSl_len]; exact (Nat.le_of_ble_eq_true rfl)) fun p e R s m args below meth c k0 x hret hnm htab => ?_
  refine z_lv [(0, zP a0), (1, zI a1)] rfl ?_
  unfold s_X6_holdsAll
  refine z_iconst (pc := 0) x (v := (0 : Int32)) dX6_holdsAll_0 rfl ?_
  refine z_istore_n (pc := 1) (lv' := [(2, zI (0 : Int32)), (0, zP a0), (1, zI a1)]) x dX6_holdsAll_1 rfl (Nat.le_of_ble_eq_true rfl) rfl ?_
  exact z_sub [1, 2, 0] rfl (w_X6_holdsAll_2 x hl hret hnm htab zN a0 a1 (0 : Int32))
/-! X6_head -/
def s_X6_head (E : zE) (a0 : Option Nat) (a1 : Int32) : zM := zC (zRv a0 [(34, fun b => s_X6_of E (some b) a1 (0 : Int32))]) zThr (zKI (fun v3 => zC (zRv a0 [(34, fun b => s_X6_of E (some b) a1 (1 : Int32))]) zThr (zKI (fun v10 => zC (zRv a0 [(34, fun b => s_X6_constant E (some b) v10)]) zThr (zKI (fun v13 => zC (zRv a0 [(34, fun b => s_X6_of E (some b) a1 (2 : Int32))]) zThr (zKI (fun v20 => zC (zRv a0 [(34, fun b => s_X6_constant E (some b) v20)]) zThr (zKI (fun v23 => zC (s_X6_fact E v3 v13 v23) zThr (zKI (fun v26 => zRet (some (.int v26))))))))))))))
theorem m_X6_head {l : Launch} {E : zE} {D : va_G} {tA : Nat → ClassId} (hl : l.stackTraces = false) (a0 : Option Nat) (a1 : Int32) : zMet l E D tA yX6_head (ws_ yX6_head cX6_head 2 (Option.some Jvm.ClassFile.FieldType.int)) 11 (s_X6_head E a0 a1) [zP a0, zI a1] := by
  refine z_met hl (by decide +kernel) (by rw [zSl_len]; exact (Nat.le_of_ble_eq_true rfl)) fun p e R s m args below meth c k0 x hret hnm htab => ?_
  refine z_lv [(0, zP a0), (1, zI a1)] rfl ?_
  unfold s_X6_head
  refine z_aload_n (pc := 0) x 0 dX6_head_0 rfl rfl ?_
  refine z_iload_n (pc := 1) x 1 dX6_head_1 rfl rfl ?_
  refine z_iconst (pc := 2) x (v := (0 : Int32)) dX6_head_2 rfl ?_
  refine z_call (pc := 3) (z_canV (pc := 3) (As := [zI a1, zI (0 : Int32)]) (st := []) x (ci := 34) rfl (fun b => m_X6_of hl (some b) a1 (0 : Int32)) q2939 q2941 (z_selP x (ci := 34) rfl (by decide) (zNi_inst x q2780) q2940 q2941) q121 q2942 n_X6_of ⟨by decide, by decide⟩ (Nat.le_of_ble_eq_true rfl) dX6_head_3) (zv_I fun v3 => ?_) (fun q => zx_thr x (fun z hz => (htab z hz).elim) q)
  refine z_aload_n (pc := 6) x 0 dX6_head_6 rfl rfl ?_
  refine z_aload_n (pc := 7) x 0 dX6_head_7 rfl rfl ?_
  refine z_iload_n (pc := 8) x 1 dX6_head_8 rfl rfl ?_
  refine z_iconst (pc := 9) x (v := (1 : Int32)) dX6_head_9 rfl ?_
  refine z_call (pc := 10) (z_canV (pc := 10) (As := [zI a1, zI (1 : Int32)]) (st := [zP a0, zI v3]) x (ci := 34) rfl (fun b => m_X6_of hl (some b) a1 (1 : Int32)) q2939 q2941 (z_selP x (ci := 34) rfl (by decide) (zNi_inst x q2780) q2940 q2941) q121 q2942 n_X6_of ⟨by decide, by decide⟩ (Nat.le_of_ble_eq_true rfl) dX6_head_10) (zv_I fun v10 => ?_) (fun q => zx_thr x (fun z hz => (htab z hz).elim) q)
  refine z_call (pc := 13) (z_canV (pc := 13) (As := [zI v10]) (st := [zI v3]) x (ci := 34) rfl (fun b => m_X6_constant hl (some b) v10) q2971 q2973 (z_selP x (ci := 34) rfl (by decide) (zNi_inst x q2780) q2972 q2973) q121 q2974 n_X6_constant ⟨by decide, by decide⟩ (Nat.le_of_ble_eq_true rfl) dX6_head_13) (zv_I fun v13 => ?_) (fun q => zx_thr x (fun z hz => (htab z hz).elim) q)
  refine z_aload_n (pc := 16) x 0 dX6_head_16 rfl rfl ?_
  refine z_aload_n (pc := 17) x 0 dX6_head_17 rfl rfl ?_
  refine z_iload_n (pc := 18) x 1 dX6_head_18 rfl rfl ?_
  refine z_iconst (pc := 19) x (v := (2 : Int32)) dX6_head_19 rfl ?_
  refine z_call (pc := 20) (z_canV (pc := 20) (As := [zI a1, zI (2 : Int32)]) (st := [zP a0, zI v13, zI v3]) x (ci := 34) rfl (fun b => m_X6_of hl (some b) a1 (2 : Int32)) q2939 q2941 (z_selP x (ci := 34) rfl (by decide) (zNi_inst x q2780) q2940 q2941) q121 q2942 n_X6_of ⟨by decide, by decide⟩ (Nat.le_of_ble_eq_true rfl) dX6_head_20) (zv_I fun v20 => ?_) (fun q => zx_thr x (fun z hz => (htab z hz).elim) q)
  refine z_call (pc := 23) (z_canV (pc := 23) (As := [zI v20]) (st := [zI v13, zI v3]) x (ci := 34) rfl (fun b => m_X6_constant hl (some b) v20) q2971 q2973 (z_selP x (ci := 34) rfl (by decide) (zNi_inst x q2780) q2972 q2973) q121 q2974 n_X6_constant ⟨by decide, by decide⟩ (Nat.le_of_ble_eq_true rfl) dX6_head_23) (zv_I fun v23 => ?_) (fun q => zx_thr x (fun z hz => (htab z hz).elim) q)
  refine z_call (pc := 26) (z_canS (pc := 26) (As := [zI v3, zI v13, zI v23]) (st := []) x (m_X6_fact hl v3 v13 v23) q2905 q2906 q121 q2907 n_X6_fact ⟨by decide, by decide⟩ (Nat.le_of_ble_eq_true rfl) dX6_head_26) (zv_I fun v26 => ?_) (fun q => zx_thr x (fun z hz => (htab z hz).elim) q)
  exact z_iret (pc := 29) x hret dX6_head_29
/-! X6_next -/
def s_X6_next_53 (E : zE) : Nat → Option Nat → Int32 → Int32 → Int32 → zM
  | 0, _, _, _, _ => zFail
  | n + 1, a0, a1, a3, a4 => if (1000 : Int32) ≤ a4 then (zRet (some (.int a4))) else (zC (zRv a0 [(34, fun b => s_X6_isStep E (some b) a1 a4)]) zThr (zKI (fun v65 => if v65 = 0 then ((s_X6_next_53 E n) a0 a1 a3 (a4 + a3)) else (zRet (some (.int a4))))))
theorem w_X6_next_53 (x : zCx p l R s m args meth c E D tA cX6_next 5 yX6_next.cls 14) (hl : l.stackTraces = false) (hret : meth.sig.returnType = (Option.some Jvm.ClassFile.FieldType.int)) (hnm : meth.name = yX6_next.name) (htab : ∀ z ∈ c.exceptionTable.toList, False) : ∀ (n : Nat) (a0 : Option Nat) (a1 : Int32) (a3 : Int32) (a4 : Int32), zW p l e R s m args below meth c E D tA 5 k0 (s_X6_next_53 E n a0 a1 a3 a4) [(0, zP a0), (1, zI a1), (3, zI a3), (4, zI a4)] 53 [] := by
  intro n
  induction n with
  | zero => intro a0 a1 a3 a4; exact z_fail
  | succ n h53 =>
    intro a0 a1 a3 a4
    rw [s_X6_next_53]
    refine z_iload (pc := 53) x 3 dX6_next_53 rfl ?_
    refine z_sipush (pc := 55) x (v := (1000 : Int32)) dX6_next_55 rfl ?_
    refine z_icmp_ge (pc := 58) (tgt := 80) x dX6_next_58 rfl (fun _ => ?_) (fun _ => ?_)
    · refine z_iload (pc := 80) x 3 dX6_next_80 rfl ?_
      exact z_iret (pc := 82) x hret dX6_next_82
    · refine z_aload_n (pc := 61) x 0 dX6_next_61 rfl rfl ?_
      refine z_iload_n (pc := 62) x 1 dX6_next_62 rfl rfl ?_
      refine z_iload (pc := 63) x 3 dX6_next_63 rfl ?_
      refine z_call (pc := 65) (z_canV (pc := 65) (As := [zI a1, zI a4]) (st := []) x (ci := 34) rfl (fun b => m_X6_isStep hl (some b) a1 a4) q2951 q2953 (z_selP x (ci := 34) rfl (by decide) (zNi_inst x q2780) q2952 q2953) q121 q2954 n_X6_isStep ⟨by decide, by decide⟩ (Nat.le_of_ble_eq_true rfl) dX6_next_65) (zv_I fun v65 => ?_) (fun q => zx_thr x (fun z hz => (htab z hz).elim) q)
      refine z_if_ne (pc := 68) (tgt := 80) x dX6_next_68 rfl (fun _ => ?_) (fun _ => ?_)
      · refine z_iload (pc := 71) x 3 dX6_next_71 rfl ?_
        refine z_iload_n (pc := 73) x 2 dX6_next_73 rfl rfl ?_
        refine z_iadd (pc := 74) x dX6_next_74 ?_
        refine z_istore (pc := 75) (lv' := [(4, zI (a4 + a3)), (0, zP a0), (1, zI a1), (3, zI a3)]) x dX6_next_75 (Nat.le_of_ble_eq_true rfl) rfl ?_
        refine z_goto (pc := 77) (tgt := 53) x dX6_next_77 rfl ?_
        exact z_sub [1, 2, 3, 0] rfl (h53 a0 a1 a3 (a4 + a3))
      · refine z_iload (pc := 80) x 3 dX6_next_80 rfl ?_
        exact z_iret (pc := 82) x hret dX6_next_82
def s_X6_next_47 (E : zE) (a0 : Option Nat) (a1 : Int32) (a2 : Int32) (b0 : Int32) : zM := s_X6_next_53 E zN a0 a1 b0 (a2 + b0)
theorem w_X6_next_47 (x : zCx p l R s m args meth c E D tA cX6_next 5 yX6_next.cls 14) (hl : l.stackTraces = false) (hret : meth.sig.returnType = (Option.some Jvm.ClassFile.FieldType.int)) (hnm : meth.name = yX6_next.name) (htab : ∀ z ∈ c.exceptionTable.toList, False) (a0 : Option Nat) (a1 : Int32) (a2 : Int32) (b0 : Int32) : zW p l e R s m args below meth c E D tA 5 k0 (s_X6_next_47 E a0 a1 a2 b0) [(0, zP a0), (1, zI a1), (2, zI a2)] 47 [zI b0] := by
  unfold s_X6_next_47
  refine z_istore_n (pc := 47) (lv' := [(3, zI b0), (0, zP a0), (1, zI a1), (2, zI a2)]) x dX6_next_47 rfl (Nat.le_of_ble_eq_true rfl) rfl ?_
  refine z_iload_n (pc := 48) x 3 dX6_next_48 rfl rfl ?_
  refine z_iload_n (pc := 49) x 0 dX6_next_49 rfl rfl ?_
  refine z_iadd (pc := 50) x dX6_next_50 ?_
  refine z_istore (pc := 51) (lv' := [(4, zI (a2 + b0)), (3, zI b0), (0, zP a0), (1, zI a1), (2, zI a2)]) x dX6_next_51 (Nat.le_of_ble_eq_true rfl) rfl ?_
  exact z_sub [2, 3, 1, 0] rfl (w_X6_next_53 x hl hret hnm htab zN a0 a1 b0 (a2 + b0))
def s_X6_next (E : zE) (a0 : Option Nat) (a1 : Int32) (a2 : Int32) : zM := zC (zRv a0 [(34, fun b => s_X6_lastOf E (some b) a1 (12 : Int32))]) zThr (zKI (fun v4 => if v4 ≤ 0 then (zC (zRv a0 [(34, fun b => s_X6_lastOf E (some b) a1 (11 : Int32))]) zThr (zKI (fun v18 => if v18 ≤ 0 then (zC (zRv a0 [(34, fun b => s_X6_lastOf E (some b) a1 (10 : Int32))]) zThr (zKI (fun v33 => if v33 ≤ 0 then (s_X6_next_47 E a0 a1 a2 (1000 : Int32)) else (s_X6_next_47 E a0 a1 a2 (100 : Int32))))) else (s_X6_next_47 E a0 a1 a2 (10 : Int32))))) else (s_X6_next_47 E a0 a1 a2 (1 : Int32))))
theorem m_X6_next {l : Launch} {E : zE} {D : va_G} {tA : Nat → ClassId} (hl : l.stackTraces = false) (a0 : Option Nat) (a1 : Int32) (a2 : Int32) : zMet l E D tA yX6_next (ws_ yX6_next cX6_next 5 (Option.some Jvm.ClassFile.FieldType.int)) 14 (s_X6_next E a0 a1 a2) [zP a0, zI a1, zI a2] := by
  refine z_met hl (by decide +kernel) (by rw [zSl_len]; exact (Nat.le_of_ble_eq_true rfl)) fun p e R s m args below meth c k0 x hret hnm htab => ?_
  refine z_lv [(0, zP a0), (1, zI a1), (2, zI a2)] rfl ?_
  unfold s_X6_next
  refine z_aload_n (pc := 0) x 0 dX6_next_0 rfl rfl ?_
  refine z_iload_n (pc := 1) x 1 dX6_next_1 rfl rfl ?_
  refine z_bipush (pc := 2) x (v := (12 : Int32)) dX6_next_2 rfl ?_
  refine z_call (pc := 4) (z_canV (pc := 4) (As := [zI a1, zI (12 : Int32)]) (st := []) x (ci := 34) rfl (fun b => m_X6_lastOf hl (some b) a1 (12 : Int32)) q2955 q2957 (z_selP x (ci := 34) rfl (by decide) (zNi_inst x q2780) q2956 q2957) q121 q2958 n_X6_lastOf ⟨by decide, by decide⟩ (Nat.le_of_ble_eq_true rfl) dX6_next_4) (zv_I fun v4 => ?_) (fun q => zx_thr x (fun z hz => (htab z hz).elim) q)
  refine z_if_le (pc := 7) (tgt := 14) x dX6_next_7 rfl (fun _ => ?_) (fun _ => ?_)
  · refine z_aload_n (pc := 14) x 0 dX6_next_14 rfl rfl ?_
    refine z_iload_n (pc := 15) x 1 dX6_next_15 rfl rfl ?_
    refine z_bipush (pc := 16) x (v := (11 : Int32)) dX6_next_16 rfl ?_
    refine z_call (pc := 18) (z_canV (pc := 18) (As := [zI a1, zI (11 : Int32)]) (st := []) x (ci := 34) rfl (fun b => m_X6_lastOf hl (some b) a1 (11 : Int32)) q2955 q2957 (z_selP x (ci := 34) rfl (by decide) (zNi_inst x q2780) q2956 q2957) q121 q2958 n_X6_lastOf ⟨by decide, by decide⟩ (Nat.le_of_ble_eq_true rfl) dX6_next_18) (zv_I fun v18 => ?_) (fun q => zx_thr x (fun z hz => (htab z hz).elim) q)
    refine z_if_le (pc := 21) (tgt := 29) x dX6_next_21 rfl (fun _ => ?_) (fun _ => ?_)
    · refine z_aload_n (pc := 29) x 0 dX6_next_29 rfl rfl ?_
      refine z_iload_n (pc := 30) x 1 dX6_next_30 rfl rfl ?_
      refine z_bipush (pc := 31) x (v := (10 : Int32)) dX6_next_31 rfl ?_
      refine z_call (pc := 33) (z_canV (pc := 33) (As := [zI a1, zI (10 : Int32)]) (st := []) x (ci := 34) rfl (fun b => m_X6_lastOf hl (some b) a1 (10 : Int32)) q2955 q2957 (z_selP x (ci := 34) rfl (by decide) (zNi_inst x q2780) q2956 q2957) q121 q2958 n_X6_lastOf ⟨by decide, by decide⟩ (Nat.le_of_ble_eq_true rfl) dX6_next_33) (zv_I fun v33 => ?_) (fun q => zx_thr x (fun z hz => (htab z hz).elim) q)
      refine z_if_le (pc := 36) (tgt := 44) x dX6_next_36 rfl (fun _ => ?_) (fun _ => ?_)
      · refine z_sipush (pc := 44) x (v := (1000 : Int32)) dX6_next_44 rfl ?_
        exact z_sub [0, 1, 2] rfl (w_X6_next_47 x hl hret hnm htab a0 a1 a2 (1000 : Int32))
      · refine z_bipush (pc := 39) x (v := (100 : Int32)) dX6_next_39 rfl ?_
        refine z_goto (pc := 41) (tgt := 47) x dX6_next_41 rfl ?_
        exact z_sub [0, 1, 2] rfl (w_X6_next_47 x hl hret hnm htab a0 a1 a2 (100 : Int32))
    · refine z_bipush (pc := 24) x (v := (10 : Int32)) dX6_next_24 rfl ?_
      refine z_goto (pc := 26) (tgt := 47) x dX6_next_26 rfl ?_
      exact z_sub [0, 1, 2] rfl (w_X6_next_47 x hl hret hnm htab a0 a1 a2 (10 : Int32))
  · refine z_iconst (pc := 10) x (v := (1 : Int32)) dX6_next_10 rfl ?_
    refine z_goto (pc := 11) (tgt := 47) x dX6_next_11 rfl ?_
    exact z_sub [0, 1, 2] rfl (w_X6_next_47 x hl hret hnm htab a0 a1 a2 (1 : Int32))
/-! X6_makes -/
def s_X6_makes_54 (E : zE) (k4 : Option Nat → Int32 → Int32 → Int32 → zM) (a0 : Option Nat) (a1 : Int32) (a2 : Int32) (a3 : Int32) : zM := zC (zRv a0 [(34, fun b => s_X6_next E (some b) a1 a3)]) zThr (zKI (fun v57 => k4 a0 a1 a2 v57))
theorem w_X6_makes_54 (x : zCx p l R s m args meth c E D tA cX6_makes 4 yX6_makes.cls 15) (hl : l.stackTraces = false) (hret : meth.sig.returnType = (Option.some Jvm.ClassFile.FieldType.boolean)) (hnm : meth.name = yX6_makes.name) (htab : ∀ z ∈ c.exceptionTable.toList, False) {k4 : Option Nat → Int32 → Int32 → Int32 → zM} (h4 : ∀ (a0 : Option Nat) (a1 : Int32) (a2 : Int32) (a3 : Int32) , zW p l e R s m args below meth c E D tA 4 k0 (k4 a0 a1 a2 a3) [(0, zP a0), (1, zI a1), (2, zI a2), (3, zI a3)] 4 []) (a0 : Option Nat) (a1 : Int32) (a2 : Int32) (a3 : Int32) : zW p l e R s m args below meth c E D tA 4 k0 (s_X6_makes_54 E k4 a0 a1 a2 a3) [(0, zP a0), (1, zI a1), (2, zI a2), (3, zI a3)] 54 [] := by
  unfold s_X6_makes_54
  refine z_aload_n (pc := 54) x 0 dX6_makes_54 rfl rfl ?_
  refine z_iload_n (pc := 55) x 1 dX6_makes_55 rfl rfl ?_
  refine z_iload_n (pc := 56) x 3 dX6_makes_56 rfl rfl ?_
  refine z_call (pc := 57) (z_canV (pc := 57) (As := [zI a1, zI a3]) (st := []) x (ci := 34) rfl (fun b => m_X6_next hl (some b) a1 a3) q2983 q2985 (z_selP x (ci := 34) rfl (by decide) (zNi_inst x q2780) q2984 q2985) q121 q2986 n_X6_next ⟨by decide, by decide⟩ (Nat.le_of_ble_eq_true rfl) dX6_makes_57) (zv_I fun v57 => ?_) (fun q => zx_thr x (fun z hz => (htab z hz).elim) q)
  refine z_istore_n (pc := 60) (lv' := [(3, zI v57), (0, zP a0), (1, zI a1), (2, zI a2)]) x dX6_makes_60 rfl (Nat.le_of_ble_eq_true rfl) rfl ?_
  refine z_goto (pc := 61) (tgt := 4) x dX6_makes_61 rfl ?_
  exact z_sub [1, 2, 3, 0] rfl (h4 a0 a1 a2 v57)
def s_X6_makes_4 (E : zE) : Nat → Option Nat → Int32 → Int32 → Int32 → zM
  | 0, _, _, _, _ => zFail
  | n + 1, a0, a1, a2, a3 => if (1000 : Int32) ≤ a3 then (zRetN .boolean a2) else (zC (zRv a0 [(34, fun b => s_X6_isStep E (some b) a1 a3)]) zThr (zKI (fun v14 => if v14 = 0 then (s_X6_makes_54 E (s_X6_makes_4 E n) a0 a1 a2 a3) else (zC (zRv a0 [(34, fun b => s_X6_holdsAll E (some b) a1)]) zThr (zKI (fun v22 => if v22 = 0 then (s_X6_makes_54 E (s_X6_makes_4 E n) a0 a1 a2 a3) else (zGetR a0 34 9 (fun v29 => zC (zRv a0 [(34, fun b => s_X6_head E (some b) a1)]) zThr (zKI (fun v34 => zGaI 2 v29 v34 (fun v37 => if v37 = 0 then (zGetR a0 34 9 (fun v42 => zC (zRv a0 [(34, fun b => s_X6_head E (some b) a1)]) zThr (zKI (fun v47 => zSaI E 2 v42 v47 (vp_nar .boolean (1 : Int32)) (s_X6_makes_54 E (s_X6_makes_4 E n) a0 a1 (1 : Int32) a3))))) else (s_X6_makes_54 E (s_X6_makes_4 E n) a0 a1 a2 a3))))))))))))
theorem w_X6_makes_4 (x : zCx p l R s m args meth c E D tA cX6_makes 4 yX6_makes.cls 15) (hl : l.stackTraces = false) (hret : meth.sig.returnType = (Option.some Jvm.ClassFile.FieldType.boolean)) (hnm : meth.name = yX6_makes.name) (htab : ∀ z ∈ c.exceptionTable.toList, False) : ∀ (n : Nat) (a0 : Option Nat) (a1 : Int32) (a2 : Int32) (a3 : Int32), zW p l e R s m args below meth c E D tA 4 k0 (s_X6_makes_4 E n a0 a1 a2 a3) [(0, zP a0), (1, zI a1), (2, zI a2), (3, zI a3)] 4 [] := by
  intro n
  induction n with
  | zero => intro a0 a1 a2 a3; exact z_fail
  | succ n h4 =>
    intro a0 a1 a2 a3
    rw [s_X6_makes_4]
    refine z_iload_n (pc := 4) x 3 dX6_makes_4 rfl rfl ?_
    refine z_sipush (pc := 5) x (v := (1000 : Int32)) dX6_makes_5 rfl ?_
    refine z_icmp_ge (pc := 8) (tgt := 64) x dX6_makes_8 rfl (fun _ => ?_) (fun _ => ?_)
    · refine z_iload_n (pc := 64) x 2 dX6_makes_64 rfl rfl ?_
      exact z_zret (pc := 65) x hret dX6_makes_65
    · refine z_aload_n (pc := 11) x 0 dX6_makes_11 rfl rfl ?_
      refine z_iload_n (pc := 12) x 1 dX6_makes_12 rfl rfl ?_
      refine z_iload_n (pc := 13) x 3 dX6_makes_13 rfl rfl ?_
      refine z_call (pc := 14) (z_canV (pc := 14) (As := [zI a1, zI a3]) (st := []) x (ci := 34) rfl (fun b => m_X6_isStep hl (some b) a1 a3) q2951 q2953 (z_selP x (ci := 34) rfl (by decide) (zNi_inst x q2780) q2952 q2953) q121 q2954 n_X6_isStep ⟨by decide, by decide⟩ (Nat.le_of_ble_eq_true rfl) dX6_makes_14) (zv_I fun v14 => ?_) (fun q => zx_thr x (fun z hz => (htab z hz).elim) q)
      refine z_if_eq (pc := 17) (tgt := 54) x dX6_makes_17 rfl (fun _ => ?_) (fun _ => ?_)
      · exact z_sub [0, 1, 2, 3] rfl (w_X6_makes_54 x hl hret hnm htab h4 a0 a1 a2 a3)
      · refine z_aload_n (pc := 20) x 0 dX6_makes_20 rfl rfl ?_
        refine z_iload_n (pc := 21) x 1 dX6_makes_21 rfl rfl ?_
        refine z_call (pc := 22) (z_canV (pc := 22) (As := [zI a1]) (st := []) x (ci := 34) rfl (fun b => m_X6_holdsAll hl (some b) a1) q2963 q2965 (z_selP x (ci := 34) rfl (by decide) (zNi_inst x q2780) q2964 q2965) q121 q2966 n_X6_holdsAll ⟨by decide, by decide⟩ (Nat.le_of_ble_eq_true rfl) dX6_makes_22) (zv_I fun v22 => ?_) (fun q => zx_thr x (fun z hz => (htab z hz).elim) q)
        refine z_if_eq (pc := 25) (tgt := 54) x dX6_makes_25 rfl (fun _ => ?_) (fun _ => ?_)
        · exact z_sub [0, 1, 2, 3] rfl (w_X6_makes_54 x hl hret hnm htab h4 a0 a1 a2 a3)
        · refine z_aload_n (pc := 28) x 0 dX6_makes_28 rfl rfl ?_
          refine z_get (pc := 29) (fun _ _ h => zAsR_eq h) x in_X6 (ci := 34) rfl (k := 9) (by decide) q2794 (fun _ h => h) dX6_makes_29 fun v29 => ?_
          refine z_aload_n (pc := 32) x 0 dX6_makes_32 rfl rfl ?_
          refine z_iload_n (pc := 33) x 1 dX6_makes_33 rfl rfl ?_
          refine z_call (pc := 34) (z_canV (pc := 34) (As := [zI a1]) (st := [zP v29]) x (ci := 34) rfl (fun b => m_X6_head hl (some b) a1) q2979 q2981 (z_selP x (ci := 34) rfl (by decide) (zNi_inst x q2780) q2980 q2981) q121 q2982 n_X6_head ⟨by decide, by decide⟩ (Nat.le_of_ble_eq_true rfl) dX6_makes_34) (zv_I fun v34 => ?_) (fun q => zx_thr x (fun z hz => (htab z hz).elim) q)
          refine z_zald (pc := 37) x (t := 2) rfl dX6_makes_37 fun v37 => ?_
          refine z_if_ne (pc := 38) (tgt := 54) x dX6_makes_38 rfl (fun _ => ?_) (fun _ => ?_)
          · refine z_aload_n (pc := 41) x 0 dX6_makes_41 rfl rfl ?_
            refine z_get (pc := 42) (fun _ _ h => zAsR_eq h) x in_X6 (ci := 34) rfl (k := 9) (by decide) q2794 (fun _ h => h) dX6_makes_42 fun v42 => ?_
            refine z_aload_n (pc := 45) x 0 dX6_makes_45 rfl rfl ?_
            refine z_iload_n (pc := 46) x 1 dX6_makes_46 rfl rfl ?_
            refine z_call (pc := 47) (z_canV (pc := 47) (As := [zI a1]) (st := [zP v42]) x (ci := 34) rfl (fun b => m_X6_head hl (some b) a1) q2979 q2981 (z_selP x (ci := 34) rfl (by decide) (zNi_inst x q2780) q2980 q2981) q121 q2982 n_X6_head ⟨by decide, by decide⟩ (Nat.le_of_ble_eq_true rfl) dX6_makes_47) (zv_I fun v47 => ?_) (fun q => zx_thr x (fun z hz => (htab z hz).elim) q)
            refine z_iconst (pc := 50) x (v := (1 : Int32)) dX6_makes_50 rfl ?_
            refine z_zast (pc := 51) x (t := 2) rfl dX6_makes_51 ?_
            refine z_iconst (pc := 52) x (v := (1 : Int32)) dX6_makes_52 rfl ?_
            refine z_istore_n (pc := 53) (lv' := [(2, zI (1 : Int32)), (0, zP a0), (1, zI a1), (3, zI a3)]) x dX6_makes_53 rfl (Nat.le_of_ble_eq_true rfl) rfl ?_
            exact z_sub [1, 2, 0, 3] rfl (w_X6_makes_54 x hl hret hnm htab h4 a0 a1 (1 : Int32) a3)
          · exact z_sub [0, 1, 2, 3] rfl (w_X6_makes_54 x hl hret hnm htab h4 a0 a1 a2 a3)
def s_X6_makes (E : zE) (a0 : Option Nat) (a1 : Int32) : zM := s_X6_makes_4 E zN a0 a1 (0 : Int32) (0 : Int32)
theorem m_X6_makes {l : Launch} {E : zE} {D : va_G} {tA : Nat → ClassId} (hl : l.stackTraces = false) (a0 : Option Nat) (a1 : Int32) : zMet l E D tA yX6_makes (ws_ yX6_makes cX6_makes 4 (Option.some Jvm.ClassFile.FieldType.boolean)) 15 (s_X6_makes E a0 a1) [zP a0, zI a1] := by
  refine z_met hl (by decide +kernel) (by rw [zSl_len]; exact (Nat.le_of_ble_eq_true rfl)) fun p e R s m args below meth c k0 x hret hnm htab => ?_
  refine z_lv [(0, zP a0), (1, zI a1)] rfl ?_
  unfold s_X6_makes
  refine z_iconst (pc := 0) x (v := (0 : Int32)) dX6_makes_0 rfl ?_
  refine z_istore_n (pc := 1) (lv' := [(2, zI (0 : Int32)), (0, zP a0), (1, zI a1)]) x dX6_makes_1 rfl (Nat.le_of_ble_eq_true rfl) rfl ?_
  refine z_iconst (pc := 2) x (v := (0 : Int32)) dX6_makes_2 rfl ?_
  refine z_istore_n (pc := 3) (lv' := [(3, zI (0 : Int32)), (2, zI (0 : Int32)), (0, zP a0), (1, zI a1)]) x dX6_makes_3 rfl (Nat.le_of_ble_eq_true rfl) rfl ?_
  exact z_sub [2, 3, 1, 0] rfl (w_X6_makes_4 x hl hret hnm htab zN a0 a1 (0 : Int32) (0 : Int32))
/-! X6_derives -/
def s_X6_derives_99 (E : zE) (k44 : Option Nat → Int32 → zM) (k52 : Option Nat → Int32 → Int32 → zM) (k60 : Option Nat → Int32 → Int32 → Int32 → zM) (a0 : Option Nat) (a1 : Int32) (a3 : Int32) (b0 : Int32) (b1 : Int32) : zM := k60 a0 a1 (b0 ||| b1) (a3 + (1 : Int32))
theorem w_X6_derives_99 (x : zCx p l R s m args meth c E D tA cX6_derives 4 yX6_derives.cls 16) (hl : l.stackTraces = false) (hret : meth.sig.returnType = (Option.none : Option Jvm.ClassFile.FieldType)) (hnm : meth.name = yX6_derives.name) (htab : ∀ z ∈ c.exceptionTable.toList, False) {k44 : Option Nat → Int32 → zM} (h44 : ∀ (a0 : Option Nat) (a1 : Int32) , zW p l e R s m args below meth c E D tA 4 k0 (k44 a0 a1) [(0, zP a0), (1, zI a1)] 44 []) {k52 : Option Nat → Int32 → Int32 → zM} (h52 : ∀ (a0 : Option Nat) (a1 : Int32) (a2 : Int32) , zW p l e R s m args below meth c E D tA 4 k0 (k52 a0 a1 a2) [(0, zP a0), (1, zI a1), (2, zI a2)] 52 []) {k60 : Option Nat → Int32 → Int32 → Int32 → zM} (h60 : ∀ (a0 : Option Nat) (a1 : Int32) (a2 : Int32) (a3 : Int32) , zW p l e R s m args below meth c E D tA 4 k0 (k60 a0 a1 a2 a3) [(0, zP a0), (1, zI a1), (2, zI a2), (3, zI a3)] 60 []) (a0 : Option Nat) (a1 : Int32) (a3 : Int32) (b0 : Int32) (b1 : Int32) : zW p l e R s m args below meth c E D tA 4 k0 (s_X6_derives_99 E k44 k52 k60 a0 a1 a3 b0 b1) [(0, zP a0), (1, zI a1), (3, zI a3)] 99 [zI b1, zI b0] := by
  unfold s_X6_derives_99
  refine z_ior (pc := 99) x dX6_derives_99 ?_
  refine z_istore_n (pc := 100) (lv' := [(2, zI (b0 ||| b1)), (0, zP a0), (1, zI a1), (3, zI a3)]) x dX6_derives_100 rfl (Nat.le_of_ble_eq_true rfl) rfl ?_
  refine z_iinc (pc := 101) (lv' := [(3, zI (a3 + (1 : Int32))), (2, zI (b0 ||| b1)), (0, zP a0), (1, zI a1)]) x (v2 := (a3 + (1 : Int32))) 3 dX6_derives_101 rfl rfl (Nat.le_of_ble_eq_true rfl) rfl ?_
  refine z_goto (pc := 104) (tgt := 60) x dX6_derives_104 rfl ?_
  exact z_sub [2, 3, 1, 0] rfl (h60 a0 a1 (b0 ||| b1) (a3 + (1 : Int32)))
def s_X6_derives_98 (E : zE) (k44 : Option Nat → Int32 → zM) (k52 : Option Nat → Int32 → Int32 → zM) (k60 : Option Nat → Int32 → Int32 → Int32 → zM) (a0 : Option Nat) (a1 : Int32) (a3 : Int32) (b0 : Int32) : zM := s_X6_derives_99 E k44 k52 k60 a0 a1 a3 b0 (0 : Int32)
theorem w_X6_derives_98 (x : zCx p l R s m args meth c E D tA cX6_derives 4 yX6_derives.cls 16) (hl : l.stackTraces = false) (hret : meth.sig.returnType = (Option.none : Option Jvm.ClassFile.FieldType)) (hnm : meth.name = yX6_derives.name) (htab : ∀ z ∈ c.exceptionTable.toList, False) {k44 : Option Nat → Int32 → zM} (h44 : ∀ (a0 : Option Nat) (a1 : Int32) , zW p l e R s m args below meth c E D tA 4 k0 (k44 a0 a1) [(0, zP a0), (1, zI a1)] 44 []) {k52 : Option Nat → Int32 → Int32 → zM} (h52 : ∀ (a0 : Option Nat) (a1 : Int32) (a2 : Int32) , zW p l e R s m args below meth c E D tA 4 k0 (k52 a0 a1 a2) [(0, zP a0), (1, zI a1), (2, zI a2)] 52 []) {k60 : Option Nat → Int32 → Int32 → Int32 → zM} (h60 : ∀ (a0 : Option Nat) (a1 : Int32) (a2 : Int32) (a3 : Int32) , zW p l e R s m args below meth c E D tA 4 k0 (k60 a0 a1 a2 a3) [(0, zP a0), (1, zI a1), (2, zI a2), (3, zI a3)] 60 []) (a0 : Option Nat) (a1 : Int32) (a3 : Int32) (b0 : Int32) : zW p l e R s m args below meth c E D tA 4 k0 (s_X6_derives_98 E k44 k52 k60 a0 a1 a3 b0) [(0, zP a0), (1, zI a1), (3, zI a3)] 98 [zI b0] := by
  unfold s_X6_derives_98
  refine z_iconst (pc := 98) x (v := (0 : Int32)) dX6_derives_98 rfl ?_
  exact z_sub [0, 1, 2] rfl (w_X6_derives_99 x hl hret hnm htab h44 h52 h60 a0 a1 a3 b0 (0 : Int32))
def s_X6_derives_60 (E : zE) (k44 : Option Nat → Int32 → zM) (k52 : Option Nat → Int32 → Int32 → zM) : Nat → Option Nat → Int32 → Int32 → Int32 → zM
  | 0, _, _, _, _ => zFail
  | n + 1, a0, a1, a2, a3 => zGetR a0 34 0 (fun v62 => zGaI 0 v62 (3 : Int32) (fun v66 => if v66 ≤ a3 then (k52 a0 a1 a2) else (zGetR a0 34 7 (fun v72 => zC (zRv a0 [(34, fun b => s_X6_of E (some b) a3 (0 : Int32))]) zThr (zKI (fun v78 => zGaI 0 v72 v78 (fun v81 => if v81 = a1 then (zC (zRv a0 [(34, fun b => s_X6_makes E (some b) a3)]) zThr (zKI (fun v88 => if v88 = 0 then (s_X6_derives_98 E k44 k52 (s_X6_derives_60 E k44 k52 n) a0 a1 a3 a2) else (s_X6_derives_99 E k44 k52 (s_X6_derives_60 E k44 k52 n) a0 a1 a3 a2 (1 : Int32))))) else (s_X6_derives_98 E k44 k52 (s_X6_derives_60 E k44 k52 n) a0 a1 a3 a2))))))))
theorem w_X6_derives_60 (x : zCx p l R s m args meth c E D tA cX6_derives 4 yX6_derives.cls 16) (hl : l.stackTraces = false) (hret : meth.sig.returnType = (Option.none : Option Jvm.ClassFile.FieldType)) (hnm : meth.name = yX6_derives.name) (htab : ∀ z ∈ c.exceptionTable.toList, False) {k44 : Option Nat → Int32 → zM} (h44 : ∀ (a0 : Option Nat) (a1 : Int32) , zW p l e R s m args below meth c E D tA 4 k0 (k44 a0 a1) [(0, zP a0), (1, zI a1)] 44 []) {k52 : Option Nat → Int32 → Int32 → zM} (h52 : ∀ (a0 : Option Nat) (a1 : Int32) (a2 : Int32) , zW p l e R s m args below meth c E D tA 4 k0 (k52 a0 a1 a2) [(0, zP a0), (1, zI a1), (2, zI a2)] 52 []) : ∀ (n : Nat) (a0 : Option Nat) (a1 : Int32) (a2 : Int32) (a3 : Int32), zW p l e R s m args below meth c E D tA 4 k0 (s_X6_derives_60 E k44 k52 n a0 a1 a2 a3) [(0, zP a0), (1, zI a1), (2, zI a2), (3, zI a3)] 60 [] := by
  intro n
  induction n with
  | zero => intro a0 a1 a2 a3; exact z_fail
  | succ n h60 =>
    intro a0 a1 a2 a3
    rw [s_X6_derives_60]
    refine z_iload_n (pc := 60) x 3 dX6_derives_60 rfl rfl ?_
    refine z_aload_n (pc := 61) x 0 dX6_derives_61 rfl rfl ?_
    refine z_get (pc := 62) (fun _ _ h => zAsR_eq h) x in_X6 (ci := 34) rfl (k := 0) (by decide) q2785 (fun _ h => h) dX6_derives_62 fun v62 => ?_
    refine z_iconst (pc := 65) x (v := (3 : Int32)) dX6_derives_65 rfl ?_
    refine z_iald (pc := 66) x (t := 0) rfl dX6_derives_66 fun v66 => ?_
    refine z_icmp_ge (pc := 67) (tgt := 107) x dX6_derives_67 rfl (fun _ => ?_) (fun _ => ?_)
    · refine z_goto (pc := 107) (tgt := 52) x dX6_derives_107 rfl ?_
      exact z_sub [0, 1, 2] rfl (h52 a0 a1 a2)
    · refine z_iload_n (pc := 70) x 2 dX6_derives_70 rfl rfl ?_
      refine z_aload_n (pc := 71) x 0 dX6_derives_71 rfl rfl ?_
      refine z_get (pc := 72) (fun _ _ h => zAsR_eq h) x in_X6 (ci := 34) rfl (k := 7) (by decide) q2792 (fun _ h => h) dX6_derives_72 fun v72 => ?_
      refine z_aload_n (pc := 75) x 0 dX6_derives_75 rfl rfl ?_
      refine z_iload_n (pc := 76) x 3 dX6_derives_76 rfl rfl ?_
      refine z_iconst (pc := 77) x (v := (0 : Int32)) dX6_derives_77 rfl ?_
      refine z_call (pc := 78) (z_canV (pc := 78) (As := [zI a3, zI (0 : Int32)]) (st := [zP v72, zI a2]) x (ci := 34) rfl (fun b => m_X6_of hl (some b) a3 (0 : Int32)) q2939 q2941 (z_selP x (ci := 34) rfl (by decide) (zNi_inst x q2780) q2940 q2941) q121 q2942 n_X6_of ⟨by decide, by decide⟩ (Nat.le_of_ble_eq_true rfl) dX6_derives_78) (zv_I fun v78 => ?_) (fun q => zx_thr x (fun z hz => (htab z hz).elim) q)
      refine z_iald (pc := 81) x (t := 0) rfl dX6_derives_81 fun v81 => ?_
      refine z_iload_n (pc := 82) x 1 dX6_derives_82 rfl rfl ?_
      refine z_icmp_ne (pc := 83) (tgt := 98) x dX6_derives_83 rfl (fun _ => ?_) (fun _ => ?_)
      · refine z_aload_n (pc := 86) x 0 dX6_derives_86 rfl rfl ?_
        refine z_iload_n (pc := 87) x 3 dX6_derives_87 rfl rfl ?_
        refine z_call (pc := 88) (z_canV (pc := 88) (As := [zI a3]) (st := [zI a2]) x (ci := 34) rfl (fun b => m_X6_makes hl (some b) a3) q2947 q2949 (z_selP x (ci := 34) rfl (by decide) (zNi_inst x q2780) q2948 q2949) q121 q2950 n_X6_makes ⟨by decide, by decide⟩ (Nat.le_of_ble_eq_true rfl) dX6_derives_88) (zv_I fun v88 => ?_) (fun q => zx_thr x (fun z hz => (htab z hz).elim) q)
        refine z_if_eq (pc := 91) (tgt := 98) x dX6_derives_91 rfl (fun _ => ?_) (fun _ => ?_)
        · exact z_sub [0, 1, 3] rfl (w_X6_derives_98 x hl hret hnm htab h44 h52 h60 a0 a1 a3 a2)
        · refine z_iconst (pc := 94) x (v := (1 : Int32)) dX6_derives_94 rfl ?_
          refine z_goto (pc := 95) (tgt := 99) x dX6_derives_95 rfl ?_
          exact z_sub [0, 1, 3] rfl (w_X6_derives_99 x hl hret hnm htab h44 h52 h60 a0 a1 a3 a2 (1 : Int32))
      · exact z_sub [0, 1, 3] rfl (w_X6_derives_98 x hl hret hnm htab h44 h52 h60 a0 a1 a3 a2)
def s_X6_derives_52 (E : zE) (k44 : Option Nat → Int32 → zM) : Nat → Option Nat → Int32 → Int32 → zM
  | 0, _, _, _ => zFail
  | n + 1, a0, a1, a2 => if a2 = 0 then (k44 a0 (a1 + (1 : Int32))) else (s_X6_derives_60 E k44 (s_X6_derives_52 E k44 n) zN a0 a1 (0 : Int32) (0 : Int32))
theorem w_X6_derives_52 (x : zCx p l R s m args meth c E D tA cX6_derives 4 yX6_derives.cls 16) (hl : l.stackTraces = false) (hret : meth.sig.returnType = (Option.none : Option Jvm.ClassFile.FieldType)) (hnm : meth.name = yX6_derives.name) (htab : ∀ z ∈ c.exceptionTable.toList, False) {k44 : Option Nat → Int32 → zM} (h44 : ∀ (a0 : Option Nat) (a1 : Int32) , zW p l e R s m args below meth c E D tA 4 k0 (k44 a0 a1) [(0, zP a0), (1, zI a1)] 44 []) : ∀ (n : Nat) (a0 : Option Nat) (a1 : Int32) (a2 : Int32), zW p l e R s m args below meth c E D tA 4 k0 (s_X6_derives_52 E k44 n a0 a1 a2) [(0, zP a0), (1, zI a1), (2, zI a2)] 52 [] := by
  intro n
  induction n with
  | zero => intro a0 a1 a2; exact z_fail
  | succ n h52 =>
    intro a0 a1 a2
    rw [s_X6_derives_52]
    refine z_iload_n (pc := 52) x 2 dX6_derives_52 rfl rfl ?_
    refine z_if_eq (pc := 53) (tgt := 110) x dX6_derives_53 rfl (fun _ => ?_) (fun _ => ?_)
    · refine z_iinc (pc := 110) (lv' := [(1, zI (a1 + (1 : Int32))), (0, zP a0), (2, zI a2)]) x (v2 := (a1 + (1 : Int32))) 1 dX6_derives_110 rfl rfl (Nat.le_of_ble_eq_true rfl) rfl ?_
      refine z_goto (pc := 113) (tgt := 44) x dX6_derives_113 rfl ?_
      exact z_sub [1, 0] rfl (h44 a0 (a1 + (1 : Int32)))
    · refine z_iconst (pc := 56) x (v := (0 : Int32)) dX6_derives_56 rfl ?_
      refine z_istore_n (pc := 57) (lv' := [(2, zI (0 : Int32)), (0, zP a0), (1, zI a1)]) x dX6_derives_57 rfl (Nat.le_of_ble_eq_true rfl) rfl ?_
      refine z_iconst (pc := 58) x (v := (0 : Int32)) dX6_derives_58 rfl ?_
      refine z_istore_n (pc := 59) (lv' := [(3, zI (0 : Int32)), (2, zI (0 : Int32)), (0, zP a0), (1, zI a1)]) x dX6_derives_59 rfl (Nat.le_of_ble_eq_true rfl) rfl ?_
      exact z_sub [2, 3, 1, 0] rfl (w_X6_derives_60 x hl hret hnm htab h44 h52 zN a0 a1 (0 : Int32) (0 : Int32))
def s_X6_derives_44 (E : zE) : Nat → Option Nat → Int32 → zM
  | 0, _, _ => zFail
  | n + 1, a0, a1 => if (8 : Int32) ≤ a1 then (zRet none) else (s_X6_derives_52 E (s_X6_derives_44 E n) zN a0 a1 (1 : Int32))
theorem w_X6_derives_44 (x : zCx p l R s m args meth c E D tA cX6_derives 4 yX6_derives.cls 16) (hl : l.stackTraces = false) (hret : meth.sig.returnType = (Option.none : Option Jvm.ClassFile.FieldType)) (hnm : meth.name = yX6_derives.name) (htab : ∀ z ∈ c.exceptionTable.toList, False) : ∀ (n : Nat) (a0 : Option Nat) (a1 : Int32), zW p l e R s m args below meth c E D tA 4 k0 (s_X6_derives_44 E n a0 a1) [(0, zP a0), (1, zI a1)] 44 [] := by
  intro n
  induction n with
  | zero => intro a0 a1; exact z_fail
  | succ n h44 =>
    intro a0 a1
    rw [s_X6_derives_44]
    refine z_iload_n (pc := 44) x 1 dX6_derives_44 rfl rfl ?_
    refine z_bipush (pc := 45) x (v := (8 : Int32)) dX6_derives_45 rfl ?_
    refine z_icmp_ge (pc := 47) (tgt := 116) x dX6_derives_47 rfl (fun _ => ?_) (fun _ => ?_)
    · exact z_vret (pc := 116) x hret dX6_derives_116
    · refine z_iconst (pc := 50) x (v := (1 : Int32)) dX6_derives_50 rfl ?_
      refine z_istore_n (pc := 51) (lv' := [(2, zI (1 : Int32)), (0, zP a0), (1, zI a1)]) x dX6_derives_51 rfl (Nat.le_of_ble_eq_true rfl) rfl ?_
      exact z_sub [1, 2, 0] rfl (w_X6_derives_52 x hl hret hnm htab h44 zN a0 a1 (1 : Int32))
def s_X6_derives_35 (E : zE) (k6 : Option Nat → Int32 → zM) (a0 : Option Nat) (a1 : Int32) (b0 : Option Nat) (b1 : Int32) (b2 : Int32) : zM := zSaI E 2 b0 b1 (vp_nar .boolean b2) (k6 a0 (a1 + (1 : Int32)))
theorem w_X6_derives_35 (x : zCx p l R s m args meth c E D tA cX6_derives 4 yX6_derives.cls 16) (hl : l.stackTraces = false) (hret : meth.sig.returnType = (Option.none : Option Jvm.ClassFile.FieldType)) (hnm : meth.name = yX6_derives.name) (htab : ∀ z ∈ c.exceptionTable.toList, False) {k6 : Option Nat → Int32 → zM} (h6 : ∀ (a0 : Option Nat) (a1 : Int32) , zW p l e R s m args below meth c E D tA 4 k0 (k6 a0 a1) [(0, zP a0), (1, zI a1)] 6 []) (a0 : Option Nat) (a1 : Int32) (b0 : Option Nat) (b1 : Int32) (b2 : Int32) : zW p l e R s m args below meth c E D tA 4 k0 (s_X6_derives_35 E k6 a0 a1 b0 b1 b2) [(0, zP a0), (1, zI a1)] 35 [zI b2, zI b1, zP b0] := by
  unfold s_X6_derives_35
  refine z_zast (pc := 35) x (t := 2) rfl dX6_derives_35 ?_
  refine z_iinc (pc := 36) (lv' := [(1, zI (a1 + (1 : Int32))), (0, zP a0)]) x (v2 := (a1 + (1 : Int32))) 1 dX6_derives_36 rfl rfl (Nat.le_of_ble_eq_true rfl) rfl ?_
  refine z_goto (pc := 39) (tgt := 6) x dX6_derives_39 rfl ?_
  exact z_sub [1, 0] rfl (h6 a0 (a1 + (1 : Int32)))
def s_X6_derives_6 (E : zE) : Nat → Option Nat → Int32 → zM
  | 0, _, _ => zFail
  | n + 1, a0, a1 => if (440 : Int32) ≤ a1 then (s_X6_derives_44 E zN a0 (0 : Int32)) else (zGetR a0 34 9 (fun v14 => zGetR a0 34 0 (fun v19 => zGaI 0 v19 ((4 : Int32) + a1) (fun v25 => if v25 = (1 : Int32) then (s_X6_derives_35 E (s_X6_derives_6 E n) a0 a1 v14 a1 (1 : Int32)) else (s_X6_derives_35 E (s_X6_derives_6 E n) a0 a1 v14 a1 (0 : Int32))))))
theorem w_X6_derives_6 (x : zCx p l R s m args meth c E D tA cX6_derives 4 yX6_derives.cls 16) (hl : l.stackTraces = false) (hret : meth.sig.returnType = (Option.none : Option Jvm.ClassFile.FieldType)) (hnm : meth.name = yX6_derives.name) (htab : ∀ z ∈ c.exceptionTable.toList, False) : ∀ (n : Nat) (a0 : Option Nat) (a1 : Int32), zW p l e R s m args below meth c E D tA 4 k0 (s_X6_derives_6 E n a0 a1) [(0, zP a0), (1, zI a1)] 6 [] := by
  intro n
  induction n with
  | zero => intro a0 a1; exact z_fail
  | succ n h6 =>
    intro a0 a1
    rw [s_X6_derives_6]
    refine z_iload_n (pc := 6) x 1 dX6_derives_6 rfl rfl ?_
    refine z_sipush (pc := 7) x (v := (440 : Int32)) dX6_derives_7 rfl ?_
    refine z_icmp_ge (pc := 10) (tgt := 42) x dX6_derives_10 rfl (fun _ => ?_) (fun _ => ?_)
    · refine z_iconst (pc := 42) x (v := (0 : Int32)) dX6_derives_42 rfl ?_
      refine z_istore_n (pc := 43) (lv' := [(1, zI (0 : Int32)), (0, zP a0)]) x dX6_derives_43 rfl (Nat.le_of_ble_eq_true rfl) rfl ?_
      exact z_sub [1, 0] rfl (w_X6_derives_44 x hl hret hnm htab zN a0 (0 : Int32))
    · refine z_aload_n (pc := 13) x 0 dX6_derives_13 rfl rfl ?_
      refine z_get (pc := 14) (fun _ _ h => zAsR_eq h) x in_X6 (ci := 34) rfl (k := 9) (by decide) q2794 (fun _ h => h) dX6_derives_14 fun v14 => ?_
      refine z_iload_n (pc := 17) x 1 dX6_derives_17 rfl rfl ?_
      refine z_aload_n (pc := 18) x 0 dX6_derives_18 rfl rfl ?_
      refine z_get (pc := 19) (fun _ _ h => zAsR_eq h) x in_X6 (ci := 34) rfl (k := 0) (by decide) q2785 (fun _ h => h) dX6_derives_19 fun v19 => ?_
      refine z_iconst (pc := 22) x (v := (4 : Int32)) dX6_derives_22 rfl ?_
      refine z_iload_n (pc := 23) x 1 dX6_derives_23 rfl rfl ?_
      refine z_iadd (pc := 24) x dX6_derives_24 ?_
      refine z_iald (pc := 25) x (t := 0) rfl dX6_derives_25 fun v25 => ?_
      refine z_iconst (pc := 26) x (v := (1 : Int32)) dX6_derives_26 rfl ?_
      refine z_icmp_ne (pc := 27) (tgt := 34) x dX6_derives_27 rfl (fun _ => ?_) (fun _ => ?_)
      · refine z_iconst (pc := 30) x (v := (1 : Int32)) dX6_derives_30 rfl ?_
        refine z_goto (pc := 31) (tgt := 35) x dX6_derives_31 rfl ?_
        exact z_sub [0, 1] rfl (w_X6_derives_35 x hl hret hnm htab h6 a0 a1 v14 a1 (1 : Int32))
      · refine z_iconst (pc := 34) x (v := (0 : Int32)) dX6_derives_34 rfl ?_
        exact z_sub [0, 1] rfl (w_X6_derives_35 x hl hret hnm htab h6 a0 a1 v14 a1 (0 : Int32))
def s_X6_derives (E : zE) (a0 : Option Nat) : zM := zC (zRv a0 [(34, fun b => s_X6_layers E (some b))]) zThr (zKV (s_X6_derives_6 E zN a0 (0 : Int32)))
theorem m_X6_derives {l : Launch} {E : zE} {D : va_G} {tA : Nat → ClassId} (hl : l.stackTraces = false) (a0 : Option Nat) : zMet l E D tA yX6_derives (ws_ yX6_derives cX6_derives 4 (Option.none : Option Jvm.ClassFile.FieldType)) 16 (s_X6_derives E a0) [zP a0] := by
  refine z_met hl (by decide +kernel) (by rw [zSl_len]; exact (Nat.le_of_ble_eq_true rfl)) fun p e R s m args below meth c k0 x hret hnm htab => ?_
  refine z_lv [(0, zP a0)] rfl ?_
  unfold s_X6_derives
  refine z_aload_n (pc := 0) x 0 dX6_derives_0 rfl rfl ?_
  refine z_call (pc := 1) (z_canV (pc := 1) (As := []) (st := []) x (ci := 34) rfl (fun b => m_X6_layers hl (some b)) q2931 q2933 (z_selP x (ci := 34) rfl (by decide) (zNi_inst x q2780) q2932 q2933) q121 q2934 n_X6_layers ⟨by decide, by decide⟩ (Nat.le_of_ble_eq_true rfl) dX6_derives_1) (zv_V ?_) (fun q => zx_thr x (fun z hz => (htab z hz).elim) q)
  refine z_iconst (pc := 4) x (v := (0 : Int32)) dX6_derives_4 rfl ?_
  refine z_istore_n (pc := 5) (lv' := [(1, zI (0 : Int32)), (0, zP a0)]) x dX6_derives_5 rfl (Nat.le_of_ble_eq_true rfl) rfl ?_
  exact z_sub [1, 0] rfl (w_X6_derives_6 x hl hret hnm htab zN a0 (0 : Int32))
/-! X6_heightBy -/
def s_X6_heightBy_50 (E : zE) (k4 : Option Nat → Int32 → Int32 → Int32 → zM) (a0 : Option Nat) (a1 : Int32) (a2 : Int32) (a3 : Int32) : zM := k4 a0 a1 a2 (a3 + (1 : Int32))
theorem w_X6_heightBy_50 (x : zCx p l R s m args meth c E D tA cX6_heightBy 5 yX6_heightBy.cls 12) (hl : l.stackTraces = false) (hret : meth.sig.returnType = (Option.some Jvm.ClassFile.FieldType.int)) (hnm : meth.name = yX6_heightBy.name) (htab : ∀ z ∈ c.exceptionTable.toList, False) {k4 : Option Nat → Int32 → Int32 → Int32 → zM} (h4 : ∀ (a0 : Option Nat) (a1 : Int32) (a2 : Int32) (a3 : Int32) , zW p l e R s m args below meth c E D tA 5 k0 (k4 a0 a1 a2 a3) [(0, zP a0), (1, zI a1), (2, zI a2), (3, zI a3)] 4 []) (a0 : Option Nat) (a1 : Int32) (a2 : Int32) (a3 : Int32) : zW p l e R s m args below meth c E D tA 5 k0 (s_X6_heightBy_50 E k4 a0 a1 a2 a3) [(0, zP a0), (1, zI a1), (2, zI a2), (3, zI a3)] 50 [] := by
  unfold s_X6_heightBy_50
  refine z_iinc (pc := 50) (lv' := [(3, zI (a3 + (1 : Int32))), (0, zP a0), (1, zI a1), (2, zI a2)]) x (v2 := (a3 + (1 : Int32))) 3 dX6_heightBy_50 rfl rfl (Nat.le_of_ble_eq_true rfl) rfl ?_
  refine z_goto (pc := 53) (tgt := 4) x dX6_heightBy_53 rfl ?_
  exact z_sub [1, 2, 3, 0] rfl (h4 a0 a1 a2 (a3 + (1 : Int32)))
def s_X6_heightBy_49 (E : zE) (k4 : Option Nat → Int32 → Int32 → Int32 → zM) (a0 : Option Nat) (a1 : Int32) (a3 : Int32) (b0 : Int32) : zM := s_X6_heightBy_50 E k4 a0 a1 b0 a3
theorem w_X6_heightBy_49 (x : zCx p l R s m args meth c E D tA cX6_heightBy 5 yX6_heightBy.cls 12) (hl : l.stackTraces = false) (hret : meth.sig.returnType = (Option.some Jvm.ClassFile.FieldType.int)) (hnm : meth.name = yX6_heightBy.name) (htab : ∀ z ∈ c.exceptionTable.toList, False) {k4 : Option Nat → Int32 → Int32 → Int32 → zM} (h4 : ∀ (a0 : Option Nat) (a1 : Int32) (a2 : Int32) (a3 : Int32) , zW p l e R s m args below meth c E D tA 5 k0 (k4 a0 a1 a2 a3) [(0, zP a0), (1, zI a1), (2, zI a2), (3, zI a3)] 4 []) (a0 : Option Nat) (a1 : Int32) (a3 : Int32) (b0 : Int32) : zW p l e R s m args below meth c E D tA 5 k0 (s_X6_heightBy_49 E k4 a0 a1 a3 b0) [(0, zP a0), (1, zI a1), (3, zI a3)] 49 [zI b0] := by
  unfold s_X6_heightBy_49
  refine z_istore_n (pc := 49) (lv' := [(2, zI b0), (0, zP a0), (1, zI a1), (3, zI a3)]) x dX6_heightBy_49 rfl (Nat.le_of_ble_eq_true rfl) rfl ?_
  exact z_sub [1, 2, 0, 3] rfl (w_X6_heightBy_50 x hl hret hnm htab h4 a0 a1 b0 a3)
def s_X6_heightBy_4 (E : zE) : Nat → Option Nat → Int32 → Int32 → Int32 → zM
  | 0, _, _, _, _ => zFail
  | n + 1, a0, a1, a2, a3 => zC (zRv a0 [(34, fun b => s_X6_of E (some b) a1 (3 : Int32))]) zThr (zKI (fun v8 => if v8 ≤ a3 then (zRet (some (.int (a2 + (1 : Int32))))) else (zC (zRv a0 [(34, fun b => s_X6_literal E (some b) a1 a3 (0 : Int32))]) zThr (zKI (fun v18 => if v18 = 0 then (zGetR a0 34 4 (fun v25 => zC (zRv a0 [(34, fun b => s_X6_factOfLiteral E (some b) a1 a3)]) zThr (zKI (fun v31 => zGaI 0 v25 v31 (fun v34 => if v34 ≤ a2 then (s_X6_heightBy_49 E (s_X6_heightBy_4 E n) a0 a1 a3 a2) else (s_X6_heightBy_49 E (s_X6_heightBy_4 E n) a0 a1 a3 v34)))))) else (s_X6_heightBy_50 E (s_X6_heightBy_4 E n) a0 a1 a2 a3))))))
theorem w_X6_heightBy_4 (x : zCx p l R s m args meth c E D tA cX6_heightBy 5 yX6_heightBy.cls 12) (hl : l.stackTraces = false) (hret : meth.sig.returnType = (Option.some Jvm.ClassFile.FieldType.int)) (hnm : meth.name = yX6_heightBy.name) (htab : ∀ z ∈ c.exceptionTable.toList, False) : ∀ (n : Nat) (a0 : Option Nat) (a1 : Int32) (a2 : Int32) (a3 : Int32), zW p l e R s m args below meth c E D tA 5 k0 (s_X6_heightBy_4 E n a0 a1 a2 a3) [(0, zP a0), (1, zI a1), (2, zI a2), (3, zI a3)] 4 [] := by
  intro n
  induction n with
  | zero => intro a0 a1 a2 a3; exact z_fail
  | succ n h4 =>
    intro a0 a1 a2 a3
    rw [s_X6_heightBy_4]
    refine z_iload_n (pc := 4) x 3 dX6_heightBy_4 rfl rfl ?_
    refine z_aload_n (pc := 5) x 0 dX6_heightBy_5 rfl rfl ?_
    refine z_iload_n (pc := 6) x 1 dX6_heightBy_6 rfl rfl ?_
    refine z_iconst (pc := 7) x (v := (3 : Int32)) dX6_heightBy_7 rfl ?_
    refine z_call (pc := 8) (z_canV (pc := 8) (As := [zI a1, zI (3 : Int32)]) (st := [zI a3]) x (ci := 34) rfl (fun b => m_X6_of hl (some b) a1 (3 : Int32)) q2939 q2941 (z_selP x (ci := 34) rfl (by decide) (zNi_inst x q2780) q2940 q2941) q121 q2942 n_X6_of ⟨by decide, by decide⟩ (Nat.le_of_ble_eq_true rfl) dX6_heightBy_8) (zv_I fun v8 => ?_) (fun q => zx_thr x (fun z hz => (htab z hz).elim) q)
    refine z_icmp_ge (pc := 11) (tgt := 56) x dX6_heightBy_11 rfl (fun _ => ?_) (fun _ => ?_)
    · refine z_iload_n (pc := 56) x 2 dX6_heightBy_56 rfl rfl ?_
      refine z_iconst (pc := 57) x (v := (1 : Int32)) dX6_heightBy_57 rfl ?_
      refine z_iadd (pc := 58) x dX6_heightBy_58 ?_
      exact z_iret (pc := 59) x hret dX6_heightBy_59
    · refine z_aload_n (pc := 14) x 0 dX6_heightBy_14 rfl rfl ?_
      refine z_iload_n (pc := 15) x 1 dX6_heightBy_15 rfl rfl ?_
      refine z_iload_n (pc := 16) x 3 dX6_heightBy_16 rfl rfl ?_
      refine z_iconst (pc := 17) x (v := (0 : Int32)) dX6_heightBy_17 rfl ?_
      refine z_call (pc := 18) (z_canV (pc := 18) (As := [zI a1, zI a3, zI (0 : Int32)]) (st := []) x (ci := 34) rfl (fun b => m_X6_literal hl (some b) a1 a3 (0 : Int32)) q2943 q2945 (z_selP x (ci := 34) rfl (by decide) (zNi_inst x q2780) q2944 q2945) q121 q2946 n_X6_literal ⟨by decide, by decide⟩ (Nat.le_of_ble_eq_true rfl) dX6_heightBy_18) (zv_I fun v18 => ?_) (fun q => zx_thr x (fun z hz => (htab z hz).elim) q)
      refine z_if_ne (pc := 21) (tgt := 50) x dX6_heightBy_21 rfl (fun _ => ?_) (fun _ => ?_)
      · refine z_aload_n (pc := 24) x 0 dX6_heightBy_24 rfl rfl ?_
        refine z_get (pc := 25) (fun _ _ h => zAsR_eq h) x in_X6 (ci := 34) rfl (k := 4) (by decide) q2789 (fun _ h => h) dX6_heightBy_25 fun v25 => ?_
        refine z_aload_n (pc := 28) x 0 dX6_heightBy_28 rfl rfl ?_
        refine z_iload_n (pc := 29) x 1 dX6_heightBy_29 rfl rfl ?_
        refine z_iload_n (pc := 30) x 3 dX6_heightBy_30 rfl rfl ?_
        refine z_call (pc := 31) (z_canV (pc := 31) (As := [zI a1, zI a3]) (st := [zP v25]) x (ci := 34) rfl (fun b => m_X6_factOfLiteral hl (some b) a1 a3) q2975 q2977 (z_selP x (ci := 34) rfl (by decide) (zNi_inst x q2780) q2976 q2977) q121 q2978 n_X6_factOfLiteral ⟨by decide, by decide⟩ (Nat.le_of_ble_eq_true rfl) dX6_heightBy_31) (zv_I fun v31 => ?_) (fun q => zx_thr x (fun z hz => (htab z hz).elim) q)
        refine z_iald (pc := 34) x (t := 0) rfl dX6_heightBy_34 fun v34 => ?_
        refine z_istore (pc := 35) (lv' := [(4, zI v34), (0, zP a0), (1, zI a1), (2, zI a2), (3, zI a3)]) x dX6_heightBy_35 (Nat.le_of_ble_eq_true rfl) rfl ?_
        refine z_iload (pc := 37) x 0 dX6_heightBy_37 rfl ?_
        refine z_iload_n (pc := 39) x 3 dX6_heightBy_39 rfl rfl ?_
        refine z_icmp_le (pc := 40) (tgt := 48) x dX6_heightBy_40 rfl (fun _ => ?_) (fun _ => ?_)
        · refine z_iload_n (pc := 48) x 3 dX6_heightBy_48 rfl rfl ?_
          exact z_sub [1, 2, 4] rfl (w_X6_heightBy_49 x hl hret hnm htab h4 a0 a1 a3 a2)
        · refine z_iload (pc := 43) x 0 dX6_heightBy_43 rfl ?_
          refine z_goto (pc := 45) (tgt := 49) x dX6_heightBy_45 rfl ?_
          exact z_sub [1, 2, 4] rfl (w_X6_heightBy_49 x hl hret hnm htab h4 a0 a1 a3 v34)
      · exact z_sub [0, 1, 2, 3] rfl (w_X6_heightBy_50 x hl hret hnm htab h4 a0 a1 a2 a3)
def s_X6_heightBy (E : zE) (a0 : Option Nat) (a1 : Int32) : zM := s_X6_heightBy_4 E zN a0 a1 (0 : Int32) (0 : Int32)
theorem m_X6_heightBy {l : Launch} {E : zE} {D : va_G} {tA : Nat → ClassId} (hl : l.stackTraces = false) (a0 : Option Nat) (a1 : Int32) : zMet l E D tA yX6_heightBy (ws_ yX6_heightBy cX6_heightBy 5 (Option.some Jvm.ClassFile.FieldType.int)) 12 (s_X6_heightBy E a0 a1) [zP a0, zI a1] := by
  refine z_met hl (by decide +kernel) (by rw [zSl_len]; exact (Nat.le_of_ble_eq_true rfl)) fun p e R s m args below meth c k0 x hret hnm htab => ?_
  refine z_lv [(0, zP a0), (1, zI a1)] rfl ?_
  unfold s_X6_heightBy
  refine z_iconst (pc := 0) x (v := (0 : Int32)) dX6_heightBy_0 rfl ?_
  refine z_istore_n (pc := 1) (lv' := [(2, zI (0 : Int32)), (0, zP a0), (1, zI a1)]) x dX6_heightBy_1 rfl (Nat.le_of_ble_eq_true rfl) rfl ?_
  refine z_iconst (pc := 2) x (v := (0 : Int32)) dX6_heightBy_2 rfl ?_
  refine z_istore_n (pc := 3) (lv' := [(3, zI (0 : Int32)), (2, zI (0 : Int32)), (0, zP a0), (1, zI a1)]) x dX6_heightBy_3 rfl (Nat.le_of_ble_eq_true rfl) rfl ?_
  exact z_sub [2, 3, 1, 0] rfl (w_X6_heightBy_4 x hl hret hnm htab zN a0 a1 (0 : Int32) (0 : Int32))
/-! X6_lowers -/
def s_X6_lowers_63 (E : zE) (k4 : Option Nat → Int32 → Int32 → Int32 → zM) (a0 : Option Nat) (a1 : Int32) (a2 : Int32) (a3 : Int32) : zM := zC (zRv a0 [(34, fun b => s_X6_next E (some b) a1 a3)]) zThr (zKI (fun v66 => k4 a0 a1 a2 v66))
theorem w_X6_lowers_63 (x : zCx p l R s m args meth c E D tA cX6_lowers 4 yX6_lowers.cls 15) (hl : l.stackTraces = false) (hret : meth.sig.returnType = (Option.some Jvm.ClassFile.FieldType.boolean)) (hnm : meth.name = yX6_lowers.name) (htab : ∀ z ∈ c.exceptionTable.toList, False) {k4 : Option Nat → Int32 → Int32 → Int32 → zM} (h4 : ∀ (a0 : Option Nat) (a1 : Int32) (a2 : Int32) (a3 : Int32) , zW p l e R s m args below meth c E D tA 4 k0 (k4 a0 a1 a2 a3) [(0, zP a0), (1, zI a1), (2, zI a2), (3, zI a3)] 4 []) (a0 : Option Nat) (a1 : Int32) (a2 : Int32) (a3 : Int32) : zW p l e R s m args below meth c E D tA 4 k0 (s_X6_lowers_63 E k4 a0 a1 a2 a3) [(0, zP a0), (1, zI a1), (2, zI a2), (3, zI a3)] 63 [] := by
  unfold s_X6_lowers_63
  refine z_aload_n (pc := 63) x 0 dX6_lowers_63 rfl rfl ?_
  refine z_iload_n (pc := 64) x 1 dX6_lowers_64 rfl rfl ?_
  refine z_iload_n (pc := 65) x 3 dX6_lowers_65 rfl rfl ?_
  refine z_call (pc := 66) (z_canV (pc := 66) (As := [zI a1, zI a3]) (st := []) x (ci := 34) rfl (fun b => m_X6_next hl (some b) a1 a3) q2983 q2985 (z_selP x (ci := 34) rfl (by decide) (zNi_inst x q2780) q2984 q2985) q121 q2986 n_X6_next ⟨by decide, by decide⟩ (Nat.le_of_ble_eq_true rfl) dX6_lowers_66) (zv_I fun v66 => ?_) (fun q => zx_thr x (fun z hz => (htab z hz).elim) q)
  refine z_istore_n (pc := 69) (lv' := [(3, zI v66), (0, zP a0), (1, zI a1), (2, zI a2)]) x dX6_lowers_69 rfl (Nat.le_of_ble_eq_true rfl) rfl ?_
  refine z_goto (pc := 70) (tgt := 4) x dX6_lowers_70 rfl ?_
  exact z_sub [1, 2, 3, 0] rfl (h4 a0 a1 a2 v66)
def s_X6_lowers_4 (E : zE) : Nat → Option Nat → Int32 → Int32 → Int32 → zM
  | 0, _, _, _, _ => zFail
  | n + 1, a0, a1, a2, a3 => if (1000 : Int32) ≤ a3 then (zRetN .boolean a2) else (zC (zRv a0 [(34, fun b => s_X6_isStep E (some b) a1 a3)]) zThr (zKI (fun v14 => if v14 = 0 then (s_X6_lowers_63 E (s_X6_lowers_4 E n) a0 a1 a2 a3) else (zC (zRv a0 [(34, fun b => s_X6_holdsAll E (some b) a1)]) zThr (zKI (fun v22 => if v22 = 0 then (s_X6_lowers_63 E (s_X6_lowers_4 E n) a0 a1 a2 a3) else (zC (zRv a0 [(34, fun b => s_X6_heightBy E (some b) a1)]) zThr (zKI (fun v30 => zGetR a0 34 4 (fun v34 => zC (zRv a0 [(34, fun b => s_X6_head E (some b) a1)]) zThr (zKI (fun v39 => zGaI 0 v34 v39 (fun v42 => if v42 ≤ v30 then (s_X6_lowers_63 E (s_X6_lowers_4 E n) a0 a1 a2 a3) else (zGetR a0 34 4 (fun v47 => zC (zRv a0 [(34, fun b => s_X6_head E (some b) a1)]) zThr (zKI (fun v52 => zC (zRv a0 [(34, fun b => s_X6_heightBy E (some b) a1)]) zThr (zKI (fun v57 => zSaI E 0 v47 v52 v57 (s_X6_lowers_63 E (s_X6_lowers_4 E n) a0 a1 (1 : Int32) a3))))))))))))))))))))
theorem w_X6_lowers_4 (x : zCx p l R s m args meth c E D tA cX6_lowers 4 yX6_lowers.cls 15) (hl : l.stackTraces = false) (hret : meth.sig.returnType = (Option.some Jvm.ClassFile.FieldType.boolean)) (hnm : meth.name = yX6_lowers.name) (htab : ∀ z ∈ c.exceptionTable.toList, False) : ∀ (n : Nat) (a0 : Option Nat) (a1 : Int32) (a2 : Int32) (a3 : Int32), zW p l e R s m args below meth c E D tA 4 k0 (s_X6_lowers_4 E n a0 a1 a2 a3) [(0, zP a0), (1, zI a1), (2, zI a2), (3, zI a3)] 4 [] := by
  intro n
  induction n with
  | zero => intro a0 a1 a2 a3; exact z_fail
  | succ n h4 =>
    intro a0 a1 a2 a3
    rw [s_X6_lowers_4]
    refine z_iload_n (pc := 4) x 3 dX6_lowers_4 rfl rfl ?_
    refine z_sipush (pc := 5) x (v := (1000 : Int32)) dX6_lowers_5 rfl ?_
    refine z_icmp_ge (pc := 8) (tgt := 73) x dX6_lowers_8 rfl (fun _ => ?_) (fun _ => ?_)
    · refine z_iload_n (pc := 73) x 2 dX6_lowers_73 rfl rfl ?_
      exact z_zret (pc := 74) x hret dX6_lowers_74
    · refine z_aload_n (pc := 11) x 0 dX6_lowers_11 rfl rfl ?_
      refine z_iload_n (pc := 12) x 1 dX6_lowers_12 rfl rfl ?_
      refine z_iload_n (pc := 13) x 3 dX6_lowers_13 rfl rfl ?_
      refine z_call (pc := 14) (z_canV (pc := 14) (As := [zI a1, zI a3]) (st := []) x (ci := 34) rfl (fun b => m_X6_isStep hl (some b) a1 a3) q2951 q2953 (z_selP x (ci := 34) rfl (by decide) (zNi_inst x q2780) q2952 q2953) q121 q2954 n_X6_isStep ⟨by decide, by decide⟩ (Nat.le_of_ble_eq_true rfl) dX6_lowers_14) (zv_I fun v14 => ?_) (fun q => zx_thr x (fun z hz => (htab z hz).elim) q)
      refine z_if_eq (pc := 17) (tgt := 63) x dX6_lowers_17 rfl (fun _ => ?_) (fun _ => ?_)
      · exact z_sub [0, 1, 2, 3] rfl (w_X6_lowers_63 x hl hret hnm htab h4 a0 a1 a2 a3)
      · refine z_aload_n (pc := 20) x 0 dX6_lowers_20 rfl rfl ?_
        refine z_iload_n (pc := 21) x 1 dX6_lowers_21 rfl rfl ?_
        refine z_call (pc := 22) (z_canV (pc := 22) (As := [zI a1]) (st := []) x (ci := 34) rfl (fun b => m_X6_holdsAll hl (some b) a1) q2963 q2965 (z_selP x (ci := 34) rfl (by decide) (zNi_inst x q2780) q2964 q2965) q121 q2966 n_X6_holdsAll ⟨by decide, by decide⟩ (Nat.le_of_ble_eq_true rfl) dX6_lowers_22) (zv_I fun v22 => ?_) (fun q => zx_thr x (fun z hz => (htab z hz).elim) q)
        refine z_if_eq (pc := 25) (tgt := 63) x dX6_lowers_25 rfl (fun _ => ?_) (fun _ => ?_)
        · exact z_sub [0, 1, 2, 3] rfl (w_X6_lowers_63 x hl hret hnm htab h4 a0 a1 a2 a3)
        · refine z_aload_n (pc := 28) x 0 dX6_lowers_28 rfl rfl ?_
          refine z_iload_n (pc := 29) x 1 dX6_lowers_29 rfl rfl ?_
          refine z_call (pc := 30) (z_canV (pc := 30) (As := [zI a1]) (st := []) x (ci := 34) rfl (fun b => m_X6_heightBy hl (some b) a1) q2996 q2998 (z_selP x (ci := 34) rfl (by decide) (zNi_inst x q2780) q2997 q2998) q121 q2999 n_X6_heightBy ⟨by decide, by decide⟩ (Nat.le_of_ble_eq_true rfl) dX6_lowers_30) (zv_I fun v30 => ?_) (fun q => zx_thr x (fun z hz => (htab z hz).elim) q)
          refine z_aload_n (pc := 33) x 0 dX6_lowers_33 rfl rfl ?_
          refine z_get (pc := 34) (fun _ _ h => zAsR_eq h) x in_X6 (ci := 34) rfl (k := 4) (by decide) q2789 (fun _ h => h) dX6_lowers_34 fun v34 => ?_
          refine z_aload_n (pc := 37) x 0 dX6_lowers_37 rfl rfl ?_
          refine z_iload_n (pc := 38) x 1 dX6_lowers_38 rfl rfl ?_
          refine z_call (pc := 39) (z_canV (pc := 39) (As := [zI a1]) (st := [zP v34, zI v30]) x (ci := 34) rfl (fun b => m_X6_head hl (some b) a1) q2979 q2981 (z_selP x (ci := 34) rfl (by decide) (zNi_inst x q2780) q2980 q2981) q121 q2982 n_X6_head ⟨by decide, by decide⟩ (Nat.le_of_ble_eq_true rfl) dX6_lowers_39) (zv_I fun v39 => ?_) (fun q => zx_thr x (fun z hz => (htab z hz).elim) q)
          refine z_iald (pc := 42) x (t := 0) rfl dX6_lowers_42 fun v42 => ?_
          refine z_icmp_ge (pc := 43) (tgt := 63) x dX6_lowers_43 rfl (fun _ => ?_) (fun _ => ?_)
          · exact z_sub [0, 1, 2, 3] rfl (w_X6_lowers_63 x hl hret hnm htab h4 a0 a1 a2 a3)
          · refine z_aload_n (pc := 46) x 0 dX6_lowers_46 rfl rfl ?_
            refine z_get (pc := 47) (fun _ _ h => zAsR_eq h) x in_X6 (ci := 34) rfl (k := 4) (by decide) q2789 (fun _ h => h) dX6_lowers_47 fun v47 => ?_
            refine z_aload_n (pc := 50) x 0 dX6_lowers_50 rfl rfl ?_
            refine z_iload_n (pc := 51) x 1 dX6_lowers_51 rfl rfl ?_
            refine z_call (pc := 52) (z_canV (pc := 52) (As := [zI a1]) (st := [zP v47]) x (ci := 34) rfl (fun b => m_X6_head hl (some b) a1) q2979 q2981 (z_selP x (ci := 34) rfl (by decide) (zNi_inst x q2780) q2980 q2981) q121 q2982 n_X6_head ⟨by decide, by decide⟩ (Nat.le_of_ble_eq_true rfl) dX6_lowers_52) (zv_I fun v52 => ?_) (fun q => zx_thr x (fun z hz => (htab z hz).elim) q)
            refine z_aload_n (pc := 55) x 0 dX6_lowers_55 rfl rfl ?_
            refine z_iload_n (pc := 56) x 1 dX6_lowers_56 rfl rfl ?_
            refine z_call (pc := 57) (z_canV (pc := 57) (As := [zI a1]) (st := [zI v52, zP v47]) x (ci := 34) rfl (fun b => m_X6_heightBy hl (some b) a1) q2996 q2998 (z_selP x (ci := 34) rfl (by decide) (zNi_inst x q2780) q2997 q2998) q121 q2999 n_X6_heightBy ⟨by decide, by decide⟩ (Nat.le_of_ble_eq_true rfl) dX6_lowers_57) (zv_I fun v57 => ?_) (fun q => zx_thr x (fun z hz => (htab z hz).elim) q)
            refine z_iast (pc := 60) x (t := 0) rfl dX6_lowers_60 ?_
            refine z_iconst (pc := 61) x (v := (1 : Int32)) dX6_lowers_61 rfl ?_
            refine z_istore_n (pc := 62) (lv' := [(2, zI (1 : Int32)), (0, zP a0), (1, zI a1), (3, zI a3)]) x dX6_lowers_62 rfl (Nat.le_of_ble_eq_true rfl) rfl ?_
            exact z_sub [1, 2, 0, 3] rfl (w_X6_lowers_63 x hl hret hnm htab h4 a0 a1 (1 : Int32) a3)
def s_X6_lowers (E : zE) (a0 : Option Nat) (a1 : Int32) : zM := s_X6_lowers_4 E zN a0 a1 (0 : Int32) (0 : Int32)
theorem m_X6_lowers {l : Launch} {E : zE} {D : va_G} {tA : Nat → ClassId} (hl : l.stackTraces = false) (a0 : Option Nat) (a1 : Int32) : zMet l E D tA yX6_lowers (ws_ yX6_lowers cX6_lowers 4 (Option.some Jvm.ClassFile.FieldType.boolean)) 15 (s_X6_lowers E a0 a1) [zP a0, zI a1] := by
  refine z_met hl (by decide +kernel) (by rw [zSl_len]; exact (Nat.le_of_ble_eq_true rfl)) fun p e R s m args below meth c k0 x hret hnm htab => ?_
  refine z_lv [(0, zP a0), (1, zI a1)] rfl ?_
  unfold s_X6_lowers
  refine z_iconst (pc := 0) x (v := (0 : Int32)) dX6_lowers_0 rfl ?_
  refine z_istore_n (pc := 1) (lv' := [(2, zI (0 : Int32)), (0, zP a0), (1, zI a1)]) x dX6_lowers_1 rfl (Nat.le_of_ble_eq_true rfl) rfl ?_
  refine z_iconst (pc := 2) x (v := (0 : Int32)) dX6_lowers_2 rfl ?_
  refine z_istore_n (pc := 3) (lv' := [(3, zI (0 : Int32)), (2, zI (0 : Int32)), (0, zP a0), (1, zI a1)]) x dX6_lowers_3 rfl (Nat.le_of_ble_eq_true rfl) rfl ?_
  exact z_sub [2, 3, 1, 0] rfl (w_X6_lowers_4 x hl hret hnm htab zN a0 a1 (0 : Int32) (0 : Int32))
/-! X6_chooses -/
def s_X6_chooses_77 (E : zE) (k2 : Option Nat → Int32 → Int32 → zM) (a0 : Option Nat) (a1 : Int32) (a2 : Int32) : zM := zC (zRv a0 [(34, fun b => s_X6_next E (some b) a1 a2)]) zThr (zKI (fun v80 => k2 a0 a1 v80))
theorem w_X6_chooses_77 (x : zCx p l R s m args meth c E D tA cX6_chooses 4 yX6_chooses.cls 15) (hl : l.stackTraces = false) (hret : meth.sig.returnType = (Option.none : Option Jvm.ClassFile.FieldType)) (hnm : meth.name = yX6_chooses.name) (htab : ∀ z ∈ c.exceptionTable.toList, False) {k2 : Option Nat → Int32 → Int32 → zM} (h2 : ∀ (a0 : Option Nat) (a1 : Int32) (a2 : Int32) , zW p l e R s m args below meth c E D tA 4 k0 (k2 a0 a1 a2) [(0, zP a0), (1, zI a1), (2, zI a2)] 2 []) (a0 : Option Nat) (a1 : Int32) (a2 : Int32) : zW p l e R s m args below meth c E D tA 4 k0 (s_X6_chooses_77 E k2 a0 a1 a2) [(0, zP a0), (1, zI a1), (2, zI a2)] 77 [] := by
  unfold s_X6_chooses_77
  refine z_aload_n (pc := 77) x 0 dX6_chooses_77 rfl rfl ?_
  refine z_iload_n (pc := 78) x 1 dX6_chooses_78 rfl rfl ?_
  refine z_iload_n (pc := 79) x 2 dX6_chooses_79 rfl rfl ?_
  refine z_call (pc := 80) (z_canV (pc := 80) (As := [zI a1, zI a2]) (st := []) x (ci := 34) rfl (fun b => m_X6_next hl (some b) a1 a2) q2983 q2985 (z_selP x (ci := 34) rfl (by decide) (zNi_inst x q2780) q2984 q2985) q121 q2986 n_X6_next ⟨by decide, by decide⟩ (Nat.le_of_ble_eq_true rfl) dX6_chooses_80) (zv_I fun v80 => ?_) (fun q => zx_thr x (fun z hz => (htab z hz).elim) q)
  refine z_istore_n (pc := 83) (lv' := [(2, zI v80), (0, zP a0), (1, zI a1)]) x dX6_chooses_83 rfl (Nat.le_of_ble_eq_true rfl) rfl ?_
  refine z_goto (pc := 84) (tgt := 2) x dX6_chooses_84 rfl ?_
  exact z_sub [1, 2, 0] rfl (h2 a0 a1 v80)
def s_X6_chooses_2 (E : zE) : Nat → Option Nat → Int32 → Int32 → zM
  | 0, _, _, _ => zFail
  | n + 1, a0, a1, a2 => if (1000 : Int32) ≤ a2 then (zRet none) else (zC (zRv a0 [(34, fun b => s_X6_isStep E (some b) a1 a2)]) zThr (zKI (fun v12 => if v12 = 0 then (s_X6_chooses_77 E (s_X6_chooses_2 E n) a0 a1 a2) else (zC (zRv a0 [(34, fun b => s_X6_holdsAll E (some b) a1)]) zThr (zKI (fun v20 => if v20 = 0 then (s_X6_chooses_77 E (s_X6_chooses_2 E n) a0 a1 a2) else (zC (zRv a0 [(34, fun b => s_X6_head E (some b) a1)]) zThr (zKI (fun v28 => zGetR a0 34 5 (fun v33 => zGaI 0 v33 v28 (fun v37 => if 0 ≤ v37 then (s_X6_chooses_77 E (s_X6_chooses_2 E n) a0 a1 a2) else (zGetR a0 34 4 (fun v42 => zGaI 0 v42 v28 (fun v46 => if v46 ≤ 0 then (s_X6_chooses_77 E (s_X6_chooses_2 E n) a0 a1 a2) else (zC (zRv a0 [(34, fun b => s_X6_heightBy E (some b) a1)]) zThr (zKI (fun v52 => zGetR a0 34 4 (fun v56 => zGaI 0 v56 v28 (fun v60 => if v52 = v60 then (zGetR a0 34 5 (fun v65 => zSaI E 0 v65 v28 (((1000 : Int32) * a1) + a2) (s_X6_chooses_77 E (s_X6_chooses_2 E n) a0 a1 a2))) else (s_X6_chooses_77 E (s_X6_chooses_2 E n) a0 a1 a2))))))))))))))))))))
theorem w_X6_chooses_2 (x : zCx p l R s m args meth c E D tA cX6_chooses 4 yX6_chooses.cls 15) (hl : l.stackTraces = false) (hret : meth.sig.returnType = (Option.none : Option Jvm.ClassFile.FieldType)) (hnm : meth.name = yX6_chooses.name) (htab : ∀ z ∈ c.exceptionTable.toList, False) : ∀ (n : Nat) (a0 : Option Nat) (a1 : Int32) (a2 : Int32), zW p l e R s m args below meth c E D tA 4 k0 (s_X6_chooses_2 E n a0 a1 a2) [(0, zP a0), (1, zI a1), (2, zI a2)] 2 [] := by
  intro n
  induction n with
  | zero => intro a0 a1 a2; exact z_fail
  | succ n h2 =>
    intro a0 a1 a2
    rw [s_X6_chooses_2]
    refine z_iload_n (pc := 2) x 2 dX6_chooses_2 rfl rfl ?_
    refine z_sipush (pc := 3) x (v := (1000 : Int32)) dX6_chooses_3 rfl ?_
    refine z_icmp_ge (pc := 6) (tgt := 87) x dX6_chooses_6 rfl (fun _ => ?_) (fun _ => ?_)
    · exact z_vret (pc := 87) x hret dX6_chooses_87
    · refine z_aload_n (pc := 9) x 0 dX6_chooses_9 rfl rfl ?_
      refine z_iload_n (pc := 10) x 1 dX6_chooses_10 rfl rfl ?_
      refine z_iload_n (pc := 11) x 2 dX6_chooses_11 rfl rfl ?_
      refine z_call (pc := 12) (z_canV (pc := 12) (As := [zI a1, zI a2]) (st := []) x (ci := 34) rfl (fun b => m_X6_isStep hl (some b) a1 a2) q2951 q2953 (z_selP x (ci := 34) rfl (by decide) (zNi_inst x q2780) q2952 q2953) q121 q2954 n_X6_isStep ⟨by decide, by decide⟩ (Nat.le_of_ble_eq_true rfl) dX6_chooses_12) (zv_I fun v12 => ?_) (fun q => zx_thr x (fun z hz => (htab z hz).elim) q)
      refine z_if_eq (pc := 15) (tgt := 77) x dX6_chooses_15 rfl (fun _ => ?_) (fun _ => ?_)
      · exact z_sub [0, 1, 2] rfl (w_X6_chooses_77 x hl hret hnm htab h2 a0 a1 a2)
      · refine z_aload_n (pc := 18) x 0 dX6_chooses_18 rfl rfl ?_
        refine z_iload_n (pc := 19) x 1 dX6_chooses_19 rfl rfl ?_
        refine z_call (pc := 20) (z_canV (pc := 20) (As := [zI a1]) (st := []) x (ci := 34) rfl (fun b => m_X6_holdsAll hl (some b) a1) q2963 q2965 (z_selP x (ci := 34) rfl (by decide) (zNi_inst x q2780) q2964 q2965) q121 q2966 n_X6_holdsAll ⟨by decide, by decide⟩ (Nat.le_of_ble_eq_true rfl) dX6_chooses_20) (zv_I fun v20 => ?_) (fun q => zx_thr x (fun z hz => (htab z hz).elim) q)
        refine z_if_eq (pc := 23) (tgt := 77) x dX6_chooses_23 rfl (fun _ => ?_) (fun _ => ?_)
        · exact z_sub [0, 1, 2] rfl (w_X6_chooses_77 x hl hret hnm htab h2 a0 a1 a2)
        · refine z_aload_n (pc := 26) x 0 dX6_chooses_26 rfl rfl ?_
          refine z_iload_n (pc := 27) x 1 dX6_chooses_27 rfl rfl ?_
          refine z_call (pc := 28) (z_canV (pc := 28) (As := [zI a1]) (st := []) x (ci := 34) rfl (fun b => m_X6_head hl (some b) a1) q2979 q2981 (z_selP x (ci := 34) rfl (by decide) (zNi_inst x q2780) q2980 q2981) q121 q2982 n_X6_head ⟨by decide, by decide⟩ (Nat.le_of_ble_eq_true rfl) dX6_chooses_28) (zv_I fun v28 => ?_) (fun q => zx_thr x (fun z hz => (htab z hz).elim) q)
          refine z_istore_n (pc := 31) (lv' := [(3, zI v28), (0, zP a0), (1, zI a1), (2, zI a2)]) x dX6_chooses_31 rfl (Nat.le_of_ble_eq_true rfl) rfl ?_
          refine z_aload_n (pc := 32) x 1 dX6_chooses_32 rfl rfl ?_
          refine z_get (pc := 33) (fun _ _ h => zAsR_eq h) x in_X6 (ci := 34) rfl (k := 5) (by decide) q2790 (fun _ h => h) dX6_chooses_33 fun v33 => ?_
          refine z_iload_n (pc := 36) x 0 dX6_chooses_36 rfl rfl ?_
          refine z_iald (pc := 37) x (t := 0) rfl dX6_chooses_37 fun v37 => ?_
          refine z_if_ge (pc := 38) (tgt := 77) x dX6_chooses_38 rfl (fun _ => ?_) (fun _ => ?_)
          · exact z_sub [1, 2, 3] rfl (w_X6_chooses_77 x hl hret hnm htab h2 a0 a1 a2)
          · refine z_aload_n (pc := 41) x 1 dX6_chooses_41 rfl rfl ?_
            refine z_get (pc := 42) (fun _ _ h => zAsR_eq h) x in_X6 (ci := 34) rfl (k := 4) (by decide) q2789 (fun _ h => h) dX6_chooses_42 fun v42 => ?_
            refine z_iload_n (pc := 45) x 0 dX6_chooses_45 rfl rfl ?_
            refine z_iald (pc := 46) x (t := 0) rfl dX6_chooses_46 fun v46 => ?_
            refine z_if_le (pc := 47) (tgt := 77) x dX6_chooses_47 rfl (fun _ => ?_) (fun _ => ?_)
            · exact z_sub [1, 2, 3] rfl (w_X6_chooses_77 x hl hret hnm htab h2 a0 a1 a2)
            · refine z_aload_n (pc := 50) x 1 dX6_chooses_50 rfl rfl ?_
              refine z_iload_n (pc := 51) x 2 dX6_chooses_51 rfl rfl ?_
              refine z_call (pc := 52) (z_canV (pc := 52) (As := [zI a1]) (st := []) x (ci := 34) rfl (fun b => m_X6_heightBy hl (some b) a1) q2996 q2998 (z_selP x (ci := 34) rfl (by decide) (zNi_inst x q2780) q2997 q2998) q121 q2999 n_X6_heightBy ⟨by decide, by decide⟩ (Nat.le_of_ble_eq_true rfl) dX6_chooses_52) (zv_I fun v52 => ?_) (fun q => zx_thr x (fun z hz => (htab z hz).elim) q)
              refine z_aload_n (pc := 55) x 1 dX6_chooses_55 rfl rfl ?_
              refine z_get (pc := 56) (fun _ _ h => zAsR_eq h) x in_X6 (ci := 34) rfl (k := 4) (by decide) q2789 (fun _ h => h) dX6_chooses_56 fun v56 => ?_
              refine z_iload_n (pc := 59) x 0 dX6_chooses_59 rfl rfl ?_
              refine z_iald (pc := 60) x (t := 0) rfl dX6_chooses_60 fun v60 => ?_
              refine z_icmp_ne (pc := 61) (tgt := 77) x dX6_chooses_61 rfl (fun _ => ?_) (fun _ => ?_)
              · refine z_aload_n (pc := 64) x 1 dX6_chooses_64 rfl rfl ?_
                refine z_get (pc := 65) (fun _ _ h => zAsR_eq h) x in_X6 (ci := 34) rfl (k := 5) (by decide) q2790 (fun _ h => h) dX6_chooses_65 fun v65 => ?_
                refine z_iload_n (pc := 68) x 0 dX6_chooses_68 rfl rfl ?_
                refine z_sipush (pc := 69) x (v := (1000 : Int32)) dX6_chooses_69 rfl ?_
                refine z_iload_n (pc := 72) x 2 dX6_chooses_72 rfl rfl ?_
                refine z_imul (pc := 73) x dX6_chooses_73 ?_
                refine z_iload_n (pc := 74) x 3 dX6_chooses_74 rfl rfl ?_
                refine z_iadd (pc := 75) x dX6_chooses_75 ?_
                refine z_iast (pc := 76) x (t := 0) rfl dX6_chooses_76 ?_
                exact z_sub [1, 2, 3] rfl (w_X6_chooses_77 x hl hret hnm htab h2 a0 a1 a2)
              · exact z_sub [1, 2, 3] rfl (w_X6_chooses_77 x hl hret hnm htab h2 a0 a1 a2)
def s_X6_chooses (E : zE) (a0 : Option Nat) (a1 : Int32) : zM := s_X6_chooses_2 E zN a0 a1 (0 : Int32)
theorem m_X6_chooses {l : Launch} {E : zE} {D : va_G} {tA : Nat → ClassId} (hl : l.stackTraces = false) (a0 : Option Nat) (a1 : Int32) : zMet l E D tA yX6_chooses (ws_ yX6_chooses cX6_chooses 4 (Option.none : Option Jvm.ClassFile.FieldType)) 15 (s_X6_chooses E a0 a1) [zP a0, zI a1] := by
  refine z_met hl (by decide +kernel) (by rw [zSl_len]; exact (Nat.le_of_ble_eq_true rfl)) fun p e R s m args below meth c k0 x hret hnm htab => ?_
  refine z_lv [(0, zP a0), (1, zI a1)] rfl ?_
  unfold s_X6_chooses
  refine z_iconst (pc := 0) x (v := (0 : Int32)) dX6_chooses_0 rfl ?_
  refine z_istore_n (pc := 1) (lv' := [(2, zI (0 : Int32)), (0, zP a0), (1, zI a1)]) x dX6_chooses_1 rfl (Nat.le_of_ble_eq_true rfl) rfl ?_
  exact z_sub [1, 2, 0] rfl (w_X6_chooses_2 x hl hret hnm htab zN a0 a1 (0 : Int32))
/-! X6_measures -/
def s_X6_measures_85 (E : zE) : Nat → Option Nat → Int32 → zM
  | 0, _, _ => zFail
  | n + 1, a0, a2 => zGetR a0 34 0 (fun v87 => zGaI 0 v87 (3 : Int32) (fun v91 => if v91 ≤ a2 then (zRet none) else (zC (zRv a0 [(34, fun b => s_X6_chooses E (some b) a2)]) zThr (zKV ((s_X6_measures_85 E n) a0 (a2 + (1 : Int32)))))))
theorem w_X6_measures_85 (x : zCx p l R s m args meth c E D tA cX6_measures 3 yX6_measures.cls 16) (hl : l.stackTraces = false) (hret : meth.sig.returnType = (Option.none : Option Jvm.ClassFile.FieldType)) (hnm : meth.name = yX6_measures.name) (htab : ∀ z ∈ c.exceptionTable.toList, False) : ∀ (n : Nat) (a0 : Option Nat) (a2 : Int32), zW p l e R s m args below meth c E D tA 3 k0 (s_X6_measures_85 E n a0 a2) [(0, zP a0), (2, zI a2)] 85 [] := by
  intro n
  induction n with
  | zero => intro a0 a2; exact z_fail
  | succ n h85 =>
    intro a0 a2
    rw [s_X6_measures_85]
    refine z_iload_n (pc := 85) x 1 dX6_measures_85 rfl rfl ?_
    refine z_aload_n (pc := 86) x 0 dX6_measures_86 rfl rfl ?_
    refine z_get (pc := 87) (fun _ _ h => zAsR_eq h) x in_X6 (ci := 34) rfl (k := 0) (by decide) q2785 (fun _ h => h) dX6_measures_87 fun v87 => ?_
    refine z_iconst (pc := 90) x (v := (3 : Int32)) dX6_measures_90 rfl ?_
    refine z_iald (pc := 91) x (t := 0) rfl dX6_measures_91 fun v91 => ?_
    refine z_icmp_ge (pc := 92) (tgt := 106) x dX6_measures_92 rfl (fun _ => ?_) (fun _ => ?_)
    · exact z_vret (pc := 106) x hret dX6_measures_106
    · refine z_aload_n (pc := 95) x 0 dX6_measures_95 rfl rfl ?_
      refine z_iload_n (pc := 96) x 1 dX6_measures_96 rfl rfl ?_
      refine z_call (pc := 97) (z_canV (pc := 97) (As := [zI a2]) (st := []) x (ci := 34) rfl (fun b => m_X6_chooses hl (some b) a2) q3000 q3002 (z_selP x (ci := 34) rfl (by decide) (zNi_inst x q2780) q3001 q3002) q121 q3003 n_X6_chooses ⟨by decide, by decide⟩ (Nat.le_of_ble_eq_true rfl) dX6_measures_97) (zv_V ?_) (fun q => zx_thr x (fun z hz => (htab z hz).elim) q)
      refine z_iinc (pc := 100) (lv' := [(2, zI (a2 + (1 : Int32))), (0, zP a0)]) x (v2 := (a2 + (1 : Int32))) 1 dX6_measures_100 rfl rfl (Nat.le_of_ble_eq_true rfl) rfl ?_
      refine z_goto (pc := 103) (tgt := 85) x dX6_measures_103 rfl ?_
      exact z_sub [1, 0] rfl (h85 a0 (a2 + (1 : Int32)))
def s_X6_measures_56 (E : zE) (k48 : Option Nat → Int32 → zM) : Nat → Option Nat → Int32 → Int32 → zM
  | 0, _, _, _ => zFail
  | n + 1, a0, a1, a2 => zGetR a0 34 0 (fun v58 => zGaI 0 v58 (3 : Int32) (fun v62 => if v62 ≤ a2 then (k48 a0 a1) else (zC (zRv a0 [(34, fun b => s_X6_lowers E (some b) a2)]) zThr (zKI (fun v69 => (s_X6_measures_56 E k48 n) a0 (a1 ||| v69) (a2 + (1 : Int32)))))))
theorem w_X6_measures_56 (x : zCx p l R s m args meth c E D tA cX6_measures 3 yX6_measures.cls 16) (hl : l.stackTraces = false) (hret : meth.sig.returnType = (Option.none : Option Jvm.ClassFile.FieldType)) (hnm : meth.name = yX6_measures.name) (htab : ∀ z ∈ c.exceptionTable.toList, False) {k48 : Option Nat → Int32 → zM} (h48 : ∀ (a0 : Option Nat) (a1 : Int32) , zW p l e R s m args below meth c E D tA 3 k0 (k48 a0 a1) [(0, zP a0), (1, zI a1)] 48 []) : ∀ (n : Nat) (a0 : Option Nat) (a1 : Int32) (a2 : Int32), zW p l e R s m args below meth c E D tA 3 k0 (s_X6_measures_56 E k48 n a0 a1 a2) [(0, zP a0), (1, zI a1), (2, zI a2)] 56 [] := by
  intro n
  induction n with
  | zero => intro a0 a1 a2; exact z_fail
  | succ n h56 =>
    intro a0 a1 a2
    rw [s_X6_measures_56]
    refine z_iload_n (pc := 56) x 2 dX6_measures_56 rfl rfl ?_
    refine z_aload_n (pc := 57) x 0 dX6_measures_57 rfl rfl ?_
    refine z_get (pc := 58) (fun _ _ h => zAsR_eq h) x in_X6 (ci := 34) rfl (k := 0) (by decide) q2785 (fun _ h => h) dX6_measures_58 fun v58 => ?_
    refine z_iconst (pc := 61) x (v := (3 : Int32)) dX6_measures_61 rfl ?_
    refine z_iald (pc := 62) x (t := 0) rfl dX6_measures_62 fun v62 => ?_
    refine z_icmp_ge (pc := 63) (tgt := 80) x dX6_measures_63 rfl (fun _ => ?_) (fun _ => ?_)
    · refine z_goto (pc := 80) (tgt := 48) x dX6_measures_80 rfl ?_
      exact z_sub [0, 1] rfl (h48 a0 a1)
    · refine z_iload_n (pc := 66) x 1 dX6_measures_66 rfl rfl ?_
      refine z_aload_n (pc := 67) x 0 dX6_measures_67 rfl rfl ?_
      refine z_iload_n (pc := 68) x 2 dX6_measures_68 rfl rfl ?_
      refine z_call (pc := 69) (z_canV (pc := 69) (As := [zI a2]) (st := [zI a1]) x (ci := 34) rfl (fun b => m_X6_lowers hl (some b) a2) q2992 q2994 (z_selP x (ci := 34) rfl (by decide) (zNi_inst x q2780) q2993 q2994) q121 q2995 n_X6_lowers ⟨by decide, by decide⟩ (Nat.le_of_ble_eq_true rfl) dX6_measures_69) (zv_I fun v69 => ?_) (fun q => zx_thr x (fun z hz => (htab z hz).elim) q)
      refine z_ior (pc := 72) x dX6_measures_72 ?_
      refine z_istore_n (pc := 73) (lv' := [(1, zI (a1 ||| v69)), (0, zP a0), (2, zI a2)]) x dX6_measures_73 rfl (Nat.le_of_ble_eq_true rfl) rfl ?_
      refine z_iinc (pc := 74) (lv' := [(2, zI (a2 + (1 : Int32))), (1, zI (a1 ||| v69)), (0, zP a0)]) x (v2 := (a2 + (1 : Int32))) 2 dX6_measures_74 rfl rfl (Nat.le_of_ble_eq_true rfl) rfl ?_
      refine z_goto (pc := 77) (tgt := 56) x dX6_measures_77 rfl ?_
      exact z_sub [2, 1, 0] rfl (h56 a0 (a1 ||| v69) (a2 + (1 : Int32)))
def s_X6_measures_48 (E : zE) : Nat → Option Nat → Int32 → zM
  | 0, _, _ => zFail
  | n + 1, a0, a1 => if a1 = 0 then (s_X6_measures_85 E zN a0 (0 : Int32)) else (s_X6_measures_56 E (s_X6_measures_48 E n) zN a0 (0 : Int32) (0 : Int32))
theorem w_X6_measures_48 (x : zCx p l R s m args meth c E D tA cX6_measures 3 yX6_measures.cls 16) (hl : l.stackTraces = false) (hret : meth.sig.returnType = (Option.none : Option Jvm.ClassFile.FieldType)) (hnm : meth.name = yX6_measures.name) (htab : ∀ z ∈ c.exceptionTable.toList, False) : ∀ (n : Nat) (a0 : Option Nat) (a1 : Int32), zW p l e R s m args below meth c E D tA 3 k0 (s_X6_measures_48 E n a0 a1) [(0, zP a0), (1, zI a1)] 48 [] := by
  intro n
  induction n with
  | zero => intro a0 a1; exact z_fail
  | succ n h48 =>
    intro a0 a1
    rw [s_X6_measures_48]
    refine z_iload_n (pc := 48) x 1 dX6_measures_48 rfl rfl ?_
    refine z_if_eq (pc := 49) (tgt := 83) x dX6_measures_49 rfl (fun _ => ?_) (fun _ => ?_)
    · refine z_iconst (pc := 83) x (v := (0 : Int32)) dX6_measures_83 rfl ?_
      refine z_istore_n (pc := 84) (lv' := [(2, zI (0 : Int32)), (0, zP a0), (1, zI a1)]) x dX6_measures_84 rfl (Nat.le_of_ble_eq_true rfl) rfl ?_
      exact z_sub [1, 0] rfl (w_X6_measures_85 x hl hret hnm htab zN a0 (0 : Int32))
    · refine z_iconst (pc := 52) x (v := (0 : Int32)) dX6_measures_52 rfl ?_
      refine z_istore_n (pc := 53) (lv' := [(1, zI (0 : Int32)), (0, zP a0)]) x dX6_measures_53 rfl (Nat.le_of_ble_eq_true rfl) rfl ?_
      refine z_iconst (pc := 54) x (v := (0 : Int32)) dX6_measures_54 rfl ?_
      refine z_istore_n (pc := 55) (lv' := [(2, zI (0 : Int32)), (1, zI (0 : Int32)), (0, zP a0)]) x dX6_measures_55 rfl (Nat.le_of_ble_eq_true rfl) rfl ?_
      exact z_sub [2, 1, 0] rfl (w_X6_measures_56 x hl hret hnm htab h48 zN a0 (0 : Int32) (0 : Int32))
def s_X6_measures_32 (E : zE) (k2 : Option Nat → Int32 → zM) (a0 : Option Nat) (a1 : Int32) (b0 : Option Nat) (b1 : Int32) (b2 : Int32) : zM := zSaI E 0 b0 b1 b2 (zGetR a0 34 5 (fun v34 => zSaI E 0 v34 a1 (-1 : Int32) (k2 a0 (a1 + (1 : Int32)))))
theorem w_X6_measures_32 (x : zCx p l R s m args meth c E D tA cX6_measures 3 yX6_measures.cls 16) (hl : l.stackTraces = false) (hret : meth.sig.returnType = (Option.none : Option Jvm.ClassFile.FieldType)) (hnm : meth.name = yX6_measures.name) (htab : ∀ z ∈ c.exceptionTable.toList, False) {k2 : Option Nat → Int32 → zM} (h2 : ∀ (a0 : Option Nat) (a1 : Int32) , zW p l e R s m args below meth c E D tA 3 k0 (k2 a0 a1) [(0, zP a0), (1, zI a1)] 2 []) (a0 : Option Nat) (a1 : Int32) (b0 : Option Nat) (b1 : Int32) (b2 : Int32) : zW p l e R s m args below meth c E D tA 3 k0 (s_X6_measures_32 E k2 a0 a1 b0 b1 b2) [(0, zP a0), (1, zI a1)] 32 [zI b2, zI b1, zP b0] := by
  unfold s_X6_measures_32
  refine z_iast (pc := 32) x (t := 0) rfl dX6_measures_32 ?_
  refine z_aload_n (pc := 33) x 0 dX6_measures_33 rfl rfl ?_
  refine z_get (pc := 34) (fun _ _ h => zAsR_eq h) x in_X6 (ci := 34) rfl (k := 5) (by decide) q2790 (fun _ h => h) dX6_measures_34 fun v34 => ?_
  refine z_iload_n (pc := 37) x 1 dX6_measures_37 rfl rfl ?_
  refine z_iconst (pc := 38) x (v := (-1 : Int32)) dX6_measures_38 rfl ?_
  refine z_iast (pc := 39) x (t := 0) rfl dX6_measures_39 ?_
  refine z_iinc (pc := 40) (lv' := [(1, zI (a1 + (1 : Int32))), (0, zP a0)]) x (v2 := (a1 + (1 : Int32))) 1 dX6_measures_40 rfl rfl (Nat.le_of_ble_eq_true rfl) rfl ?_
  refine z_goto (pc := 43) (tgt := 2) x dX6_measures_43 rfl ?_
  exact z_sub [1, 0] rfl (h2 a0 (a1 + (1 : Int32)))
def s_X6_measures_2 (E : zE) : Nat → Option Nat → Int32 → zM
  | 0, _, _ => zFail
  | n + 1, a0, a1 => if (440 : Int32) ≤ a1 then (s_X6_measures_48 E zN a0 (1 : Int32)) else (zGetR a0 34 4 (fun v10 => zGetR a0 34 0 (fun v15 => zGaI 0 v15 ((4 : Int32) + a1) (fun v21 => if v21 = (1 : Int32) then (s_X6_measures_32 E (s_X6_measures_2 E n) a0 a1 v10 a1 (0 : Int32)) else (s_X6_measures_32 E (s_X6_measures_2 E n) a0 a1 v10 a1 (1000000 : Int32))))))
theorem w_X6_measures_2 (x : zCx p l R s m args meth c E D tA cX6_measures 3 yX6_measures.cls 16) (hl : l.stackTraces = false) (hret : meth.sig.returnType = (Option.none : Option Jvm.ClassFile.FieldType)) (hnm : meth.name = yX6_measures.name) (htab : ∀ z ∈ c.exceptionTable.toList, False) : ∀ (n : Nat) (a0 : Option Nat) (a1 : Int32), zW p l e R s m args below meth c E D tA 3 k0 (s_X6_measures_2 E n a0 a1) [(0, zP a0), (1, zI a1)] 2 [] := by
  intro n
  induction n with
  | zero => intro a0 a1; exact z_fail
  | succ n h2 =>
    intro a0 a1
    rw [s_X6_measures_2]
    refine z_iload_n (pc := 2) x 1 dX6_measures_2 rfl rfl ?_
    refine z_sipush (pc := 3) x (v := (440 : Int32)) dX6_measures_3 rfl ?_
    refine z_icmp_ge (pc := 6) (tgt := 46) x dX6_measures_6 rfl (fun _ => ?_) (fun _ => ?_)
    · refine z_iconst (pc := 46) x (v := (1 : Int32)) dX6_measures_46 rfl ?_
      refine z_istore_n (pc := 47) (lv' := [(1, zI (1 : Int32)), (0, zP a0)]) x dX6_measures_47 rfl (Nat.le_of_ble_eq_true rfl) rfl ?_
      exact z_sub [1, 0] rfl (w_X6_measures_48 x hl hret hnm htab zN a0 (1 : Int32))
    · refine z_aload_n (pc := 9) x 0 dX6_measures_9 rfl rfl ?_
      refine z_get (pc := 10) (fun _ _ h => zAsR_eq h) x in_X6 (ci := 34) rfl (k := 4) (by decide) q2789 (fun _ h => h) dX6_measures_10 fun v10 => ?_
      refine z_iload_n (pc := 13) x 1 dX6_measures_13 rfl rfl ?_
      refine z_aload_n (pc := 14) x 0 dX6_measures_14 rfl rfl ?_
      refine z_get (pc := 15) (fun _ _ h => zAsR_eq h) x in_X6 (ci := 34) rfl (k := 0) (by decide) q2785 (fun _ h => h) dX6_measures_15 fun v15 => ?_
      refine z_iconst (pc := 18) x (v := (4 : Int32)) dX6_measures_18 rfl ?_
      refine z_iload_n (pc := 19) x 1 dX6_measures_19 rfl rfl ?_
      refine z_iadd (pc := 20) x dX6_measures_20 ?_
      refine z_iald (pc := 21) x (t := 0) rfl dX6_measures_21 fun v21 => ?_
      refine z_iconst (pc := 22) x (v := (1 : Int32)) dX6_measures_22 rfl ?_
      refine z_icmp_ne (pc := 23) (tgt := 30) x dX6_measures_23 rfl (fun _ => ?_) (fun _ => ?_)
      · refine z_iconst (pc := 26) x (v := (0 : Int32)) dX6_measures_26 rfl ?_
        refine z_goto (pc := 27) (tgt := 32) x dX6_measures_27 rfl ?_
        exact z_sub [0, 1] rfl (w_X6_measures_32 x hl hret hnm htab h2 a0 a1 v10 a1 (0 : Int32))
      · refine z_ldc (pc := 30) x (v := (1000000 : Int32)) q2991 dX6_measures_30 ?_
        exact z_sub [0, 1] rfl (w_X6_measures_32 x hl hret hnm htab h2 a0 a1 v10 a1 (1000000 : Int32))
def s_X6_measures (E : zE) (a0 : Option Nat) : zM := s_X6_measures_2 E zN a0 (0 : Int32)
theorem m_X6_measures {l : Launch} {E : zE} {D : va_G} {tA : Nat → ClassId} (hl : l.stackTraces = false) (a0 : Option Nat) : zMet l E D tA yX6_measures (ws_ yX6_measures cX6_measures 3 (Option.none : Option Jvm.ClassFile.FieldType)) 16 (s_X6_measures E a0) [zP a0] := by
  refine z_met hl (by decide +kernel) (by rw [zSl_len]; exact (Nat.le_of_ble_eq_true rfl)) fun p e R s m args below meth c k0 x hret hnm htab => ?_
  refine z_lv [(0, zP a0)] rfl ?_
  unfold s_X6_measures
  refine z_iconst (pc := 0) x (v := (0 : Int32)) dX6_measures_0 rfl ?_
  refine z_istore_n (pc := 1) (lv' := [(1, zI (0 : Int32)), (0, zP a0)]) x dX6_measures_1 rfl (Nat.le_of_ble_eq_true rfl) rfl ?_
  exact z_sub [1, 0] rfl (w_X6_measures_2 x hl hret hnm htab zN a0 (0 : Int32))
/-! X6_finds -/
def s_X6_finds (E : zE) (a0 : Option Nat) : zM := zGetI a0 34 20 (fun v1 => if v1 = 0 then (zC (zRv a0 [(34, fun b => s_X6_derives E (some b))]) zThr (zKV (zC (zRv a0 [(34, fun b => s_X6_measures E (some b))]) zThr (zKV (zSetN E .boolean a0 34 20 (1 : Int32) (zRet none)))))) else (zRet none))
theorem m_X6_finds {l : Launch} {E : zE} {D : va_G} {tA : Nat → ClassId} (hl : l.stackTraces = false) (a0 : Option Nat) : zMet l E D tA yX6_finds (ws_ yX6_finds cX6_finds 1 (Option.none : Option Jvm.ClassFile.FieldType)) 17 (s_X6_finds E a0) [zP a0] := by
  refine z_met hl (by decide +kernel) (by rw [zSl_len]; exact (Nat.le_of_ble_eq_true rfl)) fun p e R s m args below meth c k0 x hret hnm htab => ?_
  refine z_lv [(0, zP a0)] rfl ?_
  unfold s_X6_finds
  refine z_aload_n (pc := 0) x 0 dX6_finds_0 rfl rfl ?_
  refine z_get (pc := 1) (fun _ _ h => zAsI_eq h) x in_X6 (ci := 34) rfl (k := 20) (by decide) q2805 (fun _ h => h) dX6_finds_1 fun v1 => ?_
  refine z_if_ne (pc := 4) (tgt := 20) x dX6_finds_4 rfl (fun _ => ?_) (fun _ => ?_)
  · refine z_aload_n (pc := 7) x 0 dX6_finds_7 rfl rfl ?_
    refine z_call (pc := 8) (z_canV (pc := 8) (As := []) (st := []) x (ci := 34) rfl (fun b => m_X6_derives hl (some b)) q2927 q2929 (z_selP x (ci := 34) rfl (by decide) (zNi_inst x q2780) q2928 q2929) q121 q2930 n_X6_derives ⟨by decide, by decide⟩ (Nat.le_of_ble_eq_true rfl) dX6_finds_8) (zv_V ?_) (fun q => zx_thr x (fun z hz => (htab z hz).elim) q)
    refine z_aload_n (pc := 11) x 0 dX6_finds_11 rfl rfl ?_
    refine z_call (pc := 12) (z_canV (pc := 12) (As := []) (st := []) x (ci := 34) rfl (fun b => m_X6_measures hl (some b)) q2987 q2989 (z_selP x (ci := 34) rfl (by decide) (zNi_inst x q2780) q2988 q2989) q121 q2990 n_X6_measures ⟨by decide, by decide⟩ (Nat.le_of_ble_eq_true rfl) dX6_finds_12) (zv_V ?_) (fun q => zx_thr x (fun z hz => (htab z hz).elim) q)
    refine z_aload_n (pc := 15) x 0 dX6_finds_15 rfl rfl ?_
    refine z_iconst (pc := 16) x (v := (1 : Int32)) dX6_finds_16 rfl ?_
    refine z_set_small fun hn hf => ?_
    refine z_set (pc := 17) (v := zI (1 : Int32)) x in_X6 tyX6 tyX6_ok nmX6 (ci := 34) rfl (k := 20) (by decide) q2805 (fun _ h => h) rfl hn hf dX6_finds_17 ?_
    exact z_vret (pc := 20) x hret dX6_finds_20
  · exact z_vret (pc := 20) x hret dX6_finds_20
/-! X6_remembers -/
def s_X6_remembers_6 (E : zE) : Nat → Option Nat → Int32 → zM
  | 0, _, _ => zFail
  | n + 1, a0, a1 => if (440 : Int32) ≤ a1 then (zRet none) else (zGetR a0 34 10 (fun v14 => zGetR a0 34 9 (fun v19 => zGaI 2 v19 a1 (fun v23 => zSaI E 2 v14 a1 (vp_nar .boolean v23) ((s_X6_remembers_6 E n) a0 (a1 + (1 : Int32)))))))
theorem w_X6_remembers_6 (x : zCx p l R s m args meth c E D tA cX6_remembers 2 yX6_remembers.cls 18) (hl : l.stackTraces = false) (hret : meth.sig.returnType = (Option.none : Option Jvm.ClassFile.FieldType)) (hnm : meth.name = yX6_remembers.name) (htab : ∀ z ∈ c.exceptionTable.toList, False) : ∀ (n : Nat) (a0 : Option Nat) (a1 : Int32), zW p l e R s m args below meth c E D tA 2 k0 (s_X6_remembers_6 E n a0 a1) [(0, zP a0), (1, zI a1)] 6 [] := by
  intro n
  induction n with
  | zero => intro a0 a1; exact z_fail
  | succ n h6 =>
    intro a0 a1
    rw [s_X6_remembers_6]
    refine z_iload_n (pc := 6) x 1 dX6_remembers_6 rfl rfl ?_
    refine z_sipush (pc := 7) x (v := (440 : Int32)) dX6_remembers_7 rfl ?_
    refine z_icmp_ge (pc := 10) (tgt := 31) x dX6_remembers_10 rfl (fun _ => ?_) (fun _ => ?_)
    · exact z_vret (pc := 31) x hret dX6_remembers_31
    · refine z_aload_n (pc := 13) x 0 dX6_remembers_13 rfl rfl ?_
      refine z_get (pc := 14) (fun _ _ h => zAsR_eq h) x in_X6 (ci := 34) rfl (k := 10) (by decide) q2795 (fun _ h => h) dX6_remembers_14 fun v14 => ?_
      refine z_iload_n (pc := 17) x 1 dX6_remembers_17 rfl rfl ?_
      refine z_aload_n (pc := 18) x 0 dX6_remembers_18 rfl rfl ?_
      refine z_get (pc := 19) (fun _ _ h => zAsR_eq h) x in_X6 (ci := 34) rfl (k := 9) (by decide) q2794 (fun _ h => h) dX6_remembers_19 fun v19 => ?_
      refine z_iload_n (pc := 22) x 1 dX6_remembers_22 rfl rfl ?_
      refine z_zald (pc := 23) x (t := 2) rfl dX6_remembers_23 fun v23 => ?_
      refine z_zast (pc := 24) x (t := 2) rfl dX6_remembers_24 ?_
      refine z_iinc (pc := 25) (lv' := [(1, zI (a1 + (1 : Int32))), (0, zP a0)]) x (v2 := (a1 + (1 : Int32))) 1 dX6_remembers_25 rfl rfl (Nat.le_of_ble_eq_true rfl) rfl ?_
      refine z_goto (pc := 28) (tgt := 6) x dX6_remembers_28 rfl ?_
      exact z_sub [1, 0] rfl (h6 a0 (a1 + (1 : Int32)))
def s_X6_remembers (E : zE) (a0 : Option Nat) : zM := zC (zRv a0 [(34, fun b => s_X6_finds E (some b))]) zThr (zKV (s_X6_remembers_6 E zN a0 (0 : Int32)))
theorem m_X6_remembers {l : Launch} {E : zE} {D : va_G} {tA : Nat → ClassId} (hl : l.stackTraces = false) (a0 : Option Nat) : zMet l E D tA yX6_remembers (ws_ yX6_remembers cX6_remembers 2 (Option.none : Option Jvm.ClassFile.FieldType)) 18 (s_X6_remembers E a0) [zP a0] := by
  refine z_met hl (by decide +kernel) (by rw [zSl_len]; exact (Nat.le_of_ble_eq_true rfl)) fun p e R s m args below meth c k0 x hret hnm htab => ?_
  refine z_lv [(0, zP a0)] rfl ?_
  unfold s_X6_remembers
  refine z_aload_n (pc := 0) x 0 dX6_remembers_0 rfl rfl ?_
  refine z_call (pc := 1) (z_canV (pc := 1) (As := []) (st := []) x (ci := 34) rfl (fun b => m_X6_finds hl (some b)) q2923 q2925 (z_selP x (ci := 34) rfl (by decide) (zNi_inst x q2780) q2924 q2925) q121 q2926 n_X6_finds ⟨by decide, by decide⟩ (Nat.le_of_ble_eq_true rfl) dX6_remembers_1) (zv_V ?_) (fun q => zx_thr x (fun z hz => (htab z hz).elim) q)
  refine z_iconst (pc := 4) x (v := (0 : Int32)) dX6_remembers_4 rfl ?_
  refine z_istore_n (pc := 5) (lv' := [(1, zI (0 : Int32)), (0, zP a0)]) x dX6_remembers_5 rfl (Nat.le_of_ble_eq_true rfl) rfl ?_
  exact z_sub [1, 0] rfl (w_X6_remembers_6 x hl hret hnm htab zN a0 (0 : Int32))
/-! X6_isNotGiven -/
def s_X6_isNotGiven_46 (E : zE) (b0 : Option Nat) (b1 : Int32) : zM := zC (zRv b0 [(34, fun b => s_X6_isThrown E (some b) b1 (2 : Int32))]) zThr (zKI (fun v47 => zRetN .boolean v47))
theorem w_X6_isNotGiven_46 (x : zCx p l R s m args meth c E D tA cX6_isNotGiven 4 yX6_isNotGiven.cls 12) (hl : l.stackTraces = false) (hret : meth.sig.returnType = (Option.some Jvm.ClassFile.FieldType.boolean)) (hnm : meth.name = yX6_isNotGiven.name) (htab : ∀ z ∈ c.exceptionTable.toList, False) (b0 : Option Nat) (b1 : Int32) : zW p l e R s m args below meth c E D tA 4 k0 (s_X6_isNotGiven_46 E b0 b1) [] 46 [zI b1, zP b0] := by
  unfold s_X6_isNotGiven_46
  refine z_iconst (pc := 46) x (v := (2 : Int32)) dX6_isNotGiven_46 rfl ?_
  refine z_call (pc := 47) (z_canV (pc := 47) (As := [zI b1, zI (2 : Int32)]) (st := []) x (ci := 34) rfl (fun b => m_X6_isThrown hl (some b) b1 (2 : Int32)) q2898 q2900 (z_selP x (ci := 34) rfl (by decide) (zNi_inst x q2780) q2899 q2900) q121 q2901 n_X6_isThrown ⟨by decide, by decide⟩ (Nat.le_of_ble_eq_true rfl) dX6_isNotGiven_47) (zv_I fun v47 => ?_) (fun q => zx_thr x (fun z hz => (htab z hz).elim) q)
  exact z_zret (pc := 50) x hret dX6_isNotGiven_50
def s_X6_isNotGiven_15 (E : zE) (a0 : Option Nat) (a1 : Int32) (a2 : Int32) (a3 : Int32) (b0 : Option Nat) (b1 : Int32) : zM := zC (zRv b0 [(34, fun b => s_X6_isThrown E (some b) b1 (1 : Int32))]) zThr (zKI (fun v16 => if v16 = 0 then (zGetR a0 34 0 (fun v26 => zC (s_X6_factOf E a1 a2 a3) zThr (zKI (fun v33 => zGaI 0 v26 ((4 : Int32) + v33) (fun v37 => if v37 = 0 then (s_X6_isNotGiven_46 E a0 (1 : Int32)) else (s_X6_isNotGiven_46 E a0 (0 : Int32))))))) else (zRetN .boolean (1 : Int32))))
theorem w_X6_isNotGiven_15 (x : zCx p l R s m args meth c E D tA cX6_isNotGiven 4 yX6_isNotGiven.cls 12) (hl : l.stackTraces = false) (hret : meth.sig.returnType = (Option.some Jvm.ClassFile.FieldType.boolean)) (hnm : meth.name = yX6_isNotGiven.name) (htab : ∀ z ∈ c.exceptionTable.toList, False) (a0 : Option Nat) (a1 : Int32) (a2 : Int32) (a3 : Int32) (b0 : Option Nat) (b1 : Int32) : zW p l e R s m args below meth c E D tA 4 k0 (s_X6_isNotGiven_15 E a0 a1 a2 a3 b0 b1) [(0, zP a0), (1, zI a1), (2, zI a2), (3, zI a3)] 15 [zI b1, zP b0] := by
  unfold s_X6_isNotGiven_15
  refine z_iconst (pc := 15) x (v := (1 : Int32)) dX6_isNotGiven_15 rfl ?_
  refine z_call (pc := 16) (z_canV (pc := 16) (As := [zI b1, zI (1 : Int32)]) (st := []) x (ci := 34) rfl (fun b => m_X6_isThrown hl (some b) b1 (1 : Int32)) q2898 q2900 (z_selP x (ci := 34) rfl (by decide) (zNi_inst x q2780) q2899 q2900) q121 q2901 n_X6_isThrown ⟨by decide, by decide⟩ (Nat.le_of_ble_eq_true rfl) dX6_isNotGiven_16) (zv_I fun v16 => ?_) (fun q => zx_thr x (fun z hz => (htab z hz).elim) q)
  refine z_if_eq (pc := 19) (tgt := 24) x dX6_isNotGiven_19 rfl (fun _ => ?_) (fun _ => ?_)
  · refine z_aload_n (pc := 24) x 0 dX6_isNotGiven_24 rfl rfl ?_
    refine z_aload_n (pc := 25) x 0 dX6_isNotGiven_25 rfl rfl ?_
    refine z_get (pc := 26) (fun _ _ h => zAsR_eq h) x in_X6 (ci := 34) rfl (k := 0) (by decide) q2785 (fun _ h => h) dX6_isNotGiven_26 fun v26 => ?_
    refine z_iconst (pc := 29) x (v := (4 : Int32)) dX6_isNotGiven_29 rfl ?_
    refine z_iload_n (pc := 30) x 1 dX6_isNotGiven_30 rfl rfl ?_
    refine z_iload_n (pc := 31) x 2 dX6_isNotGiven_31 rfl rfl ?_
    refine z_iload_n (pc := 32) x 3 dX6_isNotGiven_32 rfl rfl ?_
    refine z_call (pc := 33) (z_canS (pc := 33) (As := [zI a1, zI a2, zI a3]) (st := [zI (4 : Int32), zP v26, zP a0]) x (m_X6_factOf hl a1 a2 a3) q2902 q2903 q121 q2904 n_X6_factOf ⟨by decide, by decide⟩ (Nat.le_of_ble_eq_true rfl) dX6_isNotGiven_33) (zv_I fun v33 => ?_) (fun q => zx_thr x (fun z hz => (htab z hz).elim) q)
    refine z_iadd (pc := 36) x dX6_isNotGiven_36 ?_
    refine z_iald (pc := 37) x (t := 0) rfl dX6_isNotGiven_37 fun v37 => ?_
    refine z_if_ne (pc := 38) (tgt := 45) x dX6_isNotGiven_38 rfl (fun _ => ?_) (fun _ => ?_)
    · refine z_iconst (pc := 41) x (v := (1 : Int32)) dX6_isNotGiven_41 rfl ?_
      refine z_goto (pc := 42) (tgt := 46) x dX6_isNotGiven_42 rfl ?_
      exact z_sub [] rfl (w_X6_isNotGiven_46 x hl hret hnm htab a0 (1 : Int32))
    · refine z_iconst (pc := 45) x (v := (0 : Int32)) dX6_isNotGiven_45 rfl ?_
      exact z_sub [] rfl (w_X6_isNotGiven_46 x hl hret hnm htab a0 (0 : Int32))
  · refine z_iconst (pc := 22) x (v := (1 : Int32)) dX6_isNotGiven_22 rfl ?_
    exact z_zret (pc := 23) x hret dX6_isNotGiven_23
def s_X6_isNotGiven (E : zE) (a0 : Option Nat) (a1 : Int32) (a2 : Int32) (a3 : Int32) : zM := zC (s_X6_isFact E a1 a2 a3) zThr (zKI (fun v4 => if v4 = 0 then (s_X6_isNotGiven_15 E a0 a1 a2 a3 a0 (1 : Int32)) else (s_X6_isNotGiven_15 E a0 a1 a2 a3 a0 (0 : Int32))))
theorem m_X6_isNotGiven {l : Launch} {E : zE} {D : va_G} {tA : Nat → ClassId} (hl : l.stackTraces = false) (a0 : Option Nat) (a1 : Int32) (a2 : Int32) (a3 : Int32) : zMet l E D tA yX6_isNotGiven (ws_ yX6_isNotGiven cX6_isNotGiven 4 (Option.some Jvm.ClassFile.FieldType.boolean)) 12 (s_X6_isNotGiven E a0 a1 a2 a3) [zP a0, zI a1, zI a2, zI a3] := by
  refine z_met hl (by decide +kernel) (by rw [zSl_len]; exact (Nat.le_of_ble_eq_true rfl)) fun p e R s m args below meth c k0 x hret hnm htab => ?_
  refine z_lv [(0, zP a0), (1, zI a1), (2, zI a2), (3, zI a3)] rfl ?_
  unfold s_X6_isNotGiven
  refine z_aload_n (pc := 0) x 0 dX6_isNotGiven_0 rfl rfl ?_
  refine z_iload_n (pc := 1) x 1 dX6_isNotGiven_1 rfl rfl ?_
  refine z_iload_n (pc := 2) x 2 dX6_isNotGiven_2 rfl rfl ?_
  refine z_iload_n (pc := 3) x 3 dX6_isNotGiven_3 rfl rfl ?_
  refine z_call (pc := 4) (z_canS (pc := 4) (As := [zI a1, zI a2, zI a3]) (st := [zP a0]) x (m_X6_isFact hl a1 a2 a3) q2889 q2890 q121 q2891 n_X6_isFact ⟨by decide, by decide⟩ (Nat.le_of_ble_eq_true rfl) dX6_isNotGiven_4) (zv_I fun v4 => ?_) (fun q => zx_thr x (fun z hz => (htab z hz).elim) q)
  refine z_if_ne (pc := 7) (tgt := 14) x dX6_isNotGiven_7 rfl (fun _ => ?_) (fun _ => ?_)
  · refine z_iconst (pc := 10) x (v := (1 : Int32)) dX6_isNotGiven_10 rfl ?_
    refine z_goto (pc := 11) (tgt := 15) x dX6_isNotGiven_11 rfl ?_
    exact z_sub [0, 1, 2, 3] rfl (w_X6_isNotGiven_15 x hl hret hnm htab a0 a1 a2 a3 a0 (1 : Int32))
  · refine z_iconst (pc := 14) x (v := (0 : Int32)) dX6_isNotGiven_14 rfl ?_
    exact z_sub [0, 1, 2, 3] rfl (w_X6_isNotGiven_15 x hl hret hnm htab a0 a1 a2 a3 a0 (0 : Int32))
/-! X6_takes -/
def s_X6_takes (E : zE) (a0 : Option Nat) (a1 : Int32) (a2 : Int32) (a3 : Int32) : zM := zC (zRv a0 [(34, fun b => s_X6_isNotGiven E (some b) a1 a2 a3)]) zThr (zKI (fun v4 => if v4 = 0 then (zGetR a0 34 0 (fun v13 => zC (s_X6_factOf E a1 a2 a3) zThr (zKI (fun v20 => zSaI E 0 v13 ((4 : Int32) + v20) (0 : Int32) (zGetR a0 34 0 (fun v27 => zGaI 0 v27 (0 : Int32) (fun v32 => zSaI E 0 v27 (0 : Int32) (v32 - (1 : Int32)) (zGetR a0 34 0 (fun v37 => zGaI 0 v37 (2 : Int32) (fun v42 => zSaI E 0 v37 (2 : Int32) (v42 + (1 : Int32)) (zGetR a0 34 0 (fun v47 => zGaI 0 v47 (0 : Int32) (fun v51 => zRet (some (.int v51))))))))))))))) else (zRet (some (.int (0 : Int32))))))
theorem m_X6_takes {l : Launch} {E : zE} {D : va_G} {tA : Nat → ClassId} (hl : l.stackTraces = false) (a0 : Option Nat) (a1 : Int32) (a2 : Int32) (a3 : Int32) : zMet l E D tA yX6_takes (ws_ yX6_takes cX6_takes 4 (Option.some Jvm.ClassFile.FieldType.int)) 13 (s_X6_takes E a0 a1 a2 a3) [zP a0, zI a1, zI a2, zI a3] := by
  refine z_met hl (by decide +kernel) (by rw [zSl_len]; exact (Nat.le_of_ble_eq_true rfl)) fun p e R s m args below meth c k0 x hret hnm htab => ?_
  refine z_lv [(0, zP a0), (1, zI a1), (2, zI a2), (3, zI a3)] rfl ?_
  unfold s_X6_takes
  refine z_aload_n (pc := 0) x 0 dX6_takes_0 rfl rfl ?_
  refine z_iload_n (pc := 1) x 1 dX6_takes_1 rfl rfl ?_
  refine z_iload_n (pc := 2) x 2 dX6_takes_2 rfl rfl ?_
  refine z_iload_n (pc := 3) x 3 dX6_takes_3 rfl rfl ?_
  refine z_call (pc := 4) (z_canV (pc := 4) (As := [zI a1, zI a2, zI a3]) (st := []) x (ci := 34) rfl (fun b => m_X6_isNotGiven hl (some b) a1 a2 a3) q3008 q3010 (z_selP x (ci := 34) rfl (by decide) (zNi_inst x q2780) q3009 q3010) q121 q3011 n_X6_isNotGiven ⟨by decide, by decide⟩ (Nat.le_of_ble_eq_true rfl) dX6_takes_4) (zv_I fun v4 => ?_) (fun q => zx_thr x (fun z hz => (htab z hz).elim) q)
  refine z_if_eq (pc := 7) (tgt := 12) x dX6_takes_7 rfl (fun _ => ?_) (fun _ => ?_)
  · refine z_aload_n (pc := 12) x 0 dX6_takes_12 rfl rfl ?_
    refine z_get (pc := 13) (fun _ _ h => zAsR_eq h) x in_X6 (ci := 34) rfl (k := 0) (by decide) q2785 (fun _ h => h) dX6_takes_13 fun v13 => ?_
    refine z_iconst (pc := 16) x (v := (4 : Int32)) dX6_takes_16 rfl ?_
    refine z_iload_n (pc := 17) x 1 dX6_takes_17 rfl rfl ?_
    refine z_iload_n (pc := 18) x 2 dX6_takes_18 rfl rfl ?_
    refine z_iload_n (pc := 19) x 3 dX6_takes_19 rfl rfl ?_
    refine z_call (pc := 20) (z_canS (pc := 20) (As := [zI a1, zI a2, zI a3]) (st := [zI (4 : Int32), zP v13]) x (m_X6_factOf hl a1 a2 a3) q2902 q2903 q121 q2904 n_X6_factOf ⟨by decide, by decide⟩ (Nat.le_of_ble_eq_true rfl) dX6_takes_20) (zv_I fun v20 => ?_) (fun q => zx_thr x (fun z hz => (htab z hz).elim) q)
    refine z_iadd (pc := 23) x dX6_takes_23 ?_
    refine z_iconst (pc := 24) x (v := (0 : Int32)) dX6_takes_24 rfl ?_
    refine z_iast (pc := 25) x (t := 0) rfl dX6_takes_25 ?_
    refine z_aload_n (pc := 26) x 0 dX6_takes_26 rfl rfl ?_
    refine z_get (pc := 27) (fun _ _ h => zAsR_eq h) x in_X6 (ci := 34) rfl (k := 0) (by decide) q2785 (fun _ h => h) dX6_takes_27 fun v27 => ?_
    refine z_iconst (pc := 30) x (v := (0 : Int32)) dX6_takes_30 rfl ?_
    refine z_dup2 (pc := 31) x dX6_takes_31 rfl rfl ?_
    refine z_iald (pc := 32) x (t := 0) rfl dX6_takes_32 fun v32 => ?_
    refine z_iconst (pc := 33) x (v := (1 : Int32)) dX6_takes_33 rfl ?_
    refine z_isub (pc := 34) x dX6_takes_34 ?_
    refine z_iast (pc := 35) x (t := 0) rfl dX6_takes_35 ?_
    refine z_aload_n (pc := 36) x 0 dX6_takes_36 rfl rfl ?_
    refine z_get (pc := 37) (fun _ _ h => zAsR_eq h) x in_X6 (ci := 34) rfl (k := 0) (by decide) q2785 (fun _ h => h) dX6_takes_37 fun v37 => ?_
    refine z_iconst (pc := 40) x (v := (2 : Int32)) dX6_takes_40 rfl ?_
    refine z_dup2 (pc := 41) x dX6_takes_41 rfl rfl ?_
    refine z_iald (pc := 42) x (t := 0) rfl dX6_takes_42 fun v42 => ?_
    refine z_iconst (pc := 43) x (v := (1 : Int32)) dX6_takes_43 rfl ?_
    refine z_iadd (pc := 44) x dX6_takes_44 ?_
    refine z_iast (pc := 45) x (t := 0) rfl dX6_takes_45 ?_
    refine z_aload_n (pc := 46) x 0 dX6_takes_46 rfl rfl ?_
    refine z_get (pc := 47) (fun _ _ h => zAsR_eq h) x in_X6 (ci := 34) rfl (k := 0) (by decide) q2785 (fun _ h => h) dX6_takes_47 fun v47 => ?_
    refine z_iconst (pc := 50) x (v := (0 : Int32)) dX6_takes_50 rfl ?_
    refine z_iald (pc := 51) x (t := 0) rfl dX6_takes_51 fun v51 => ?_
    exact z_iret (pc := 52) x hret dX6_takes_52
  · refine z_iconst (pc := 10) x (v := (0 : Int32)) dX6_takes_10 rfl ?_
    exact z_iret (pc := 11) x hret dX6_takes_11
/-! X6_unlike -/
def s_X6_unlike_46 (E : zE) (k13 : Option Nat → Int32 → Int32 → Int32 → zM) (a0 : Option Nat) (a1 : Int32) (a3 : Int32) (b0 : Int32) (b1 : Int32) : zM := k13 a0 a1 (b0 + b1) (a3 + (1 : Int32))
theorem w_X6_unlike_46 (x : zCx p l R s m args meth c E D tA cX6_unlike 4 yX6_unlike.cls 17) (hl : l.stackTraces = false) (hret : meth.sig.returnType = (Option.some Jvm.ClassFile.FieldType.int)) (hnm : meth.name = yX6_unlike.name) (htab : ∀ z ∈ c.exceptionTable.toList, False) {k13 : Option Nat → Int32 → Int32 → Int32 → zM} (h13 : ∀ (a0 : Option Nat) (a1 : Int32) (a2 : Int32) (a3 : Int32) , zW p l e R s m args below meth c E D tA 4 k0 (k13 a0 a1 a2 a3) [(0, zP a0), (1, zI a1), (2, zI a2), (3, zI a3)] 13 []) (a0 : Option Nat) (a1 : Int32) (a3 : Int32) (b0 : Int32) (b1 : Int32) : zW p l e R s m args below meth c E D tA 4 k0 (s_X6_unlike_46 E k13 a0 a1 a3 b0 b1) [(0, zP a0), (1, zI a1), (3, zI a3)] 46 [zI b1, zI b0] := by
  unfold s_X6_unlike_46
  refine z_iadd (pc := 46) x dX6_unlike_46 ?_
  refine z_istore_n (pc := 47) (lv' := [(2, zI (b0 + b1)), (0, zP a0), (1, zI a1), (3, zI a3)]) x dX6_unlike_47 rfl (Nat.le_of_ble_eq_true rfl) rfl ?_
  refine z_iinc (pc := 48) (lv' := [(3, zI (a3 + (1 : Int32))), (2, zI (b0 + b1)), (0, zP a0), (1, zI a1)]) x (v2 := (a3 + (1 : Int32))) 3 dX6_unlike_48 rfl rfl (Nat.le_of_ble_eq_true rfl) rfl ?_
  refine z_goto (pc := 51) (tgt := 13) x dX6_unlike_51 rfl ?_
  exact z_sub [2, 3, 1, 0] rfl (h13 a0 a1 (b0 + b1) (a3 + (1 : Int32)))
def s_X6_unlike_45 (E : zE) (k13 : Option Nat → Int32 → Int32 → Int32 → zM) (a0 : Option Nat) (a1 : Int32) (a3 : Int32) (b0 : Int32) : zM := s_X6_unlike_46 E k13 a0 a1 a3 b0 (0 : Int32)
theorem w_X6_unlike_45 (x : zCx p l R s m args meth c E D tA cX6_unlike 4 yX6_unlike.cls 17) (hl : l.stackTraces = false) (hret : meth.sig.returnType = (Option.some Jvm.ClassFile.FieldType.int)) (hnm : meth.name = yX6_unlike.name) (htab : ∀ z ∈ c.exceptionTable.toList, False) {k13 : Option Nat → Int32 → Int32 → Int32 → zM} (h13 : ∀ (a0 : Option Nat) (a1 : Int32) (a2 : Int32) (a3 : Int32) , zW p l e R s m args below meth c E D tA 4 k0 (k13 a0 a1 a2 a3) [(0, zP a0), (1, zI a1), (2, zI a2), (3, zI a3)] 13 []) (a0 : Option Nat) (a1 : Int32) (a3 : Int32) (b0 : Int32) : zW p l e R s m args below meth c E D tA 4 k0 (s_X6_unlike_45 E k13 a0 a1 a3 b0) [(0, zP a0), (1, zI a1), (3, zI a3)] 45 [zI b0] := by
  unfold s_X6_unlike_45
  refine z_iconst (pc := 45) x (v := (0 : Int32)) dX6_unlike_45 rfl ?_
  exact z_sub [0, 1, 2] rfl (w_X6_unlike_46 x hl hret hnm htab h13 a0 a1 a3 b0 (0 : Int32))
def s_X6_unlike_13 (E : zE) : Nat → Option Nat → Int32 → Int32 → Int32 → zM
  | 0, _, _, _, _ => zFail
  | n + 1, a0, a1, a2, a3 => if (440 : Int32) ≤ a3 then (zRet (some (.int a2))) else (zGetR a0 34 10 (fun v22 => zGaI 2 v22 a3 (fun v26 => if v26 = a1 then (zGetR a0 34 9 (fun v32 => zGaI 2 v32 a3 (fun v36 => if v36 = a1 then (s_X6_unlike_45 E (s_X6_unlike_13 E n) a0 a1 a3 a2) else (s_X6_unlike_46 E (s_X6_unlike_13 E n) a0 a1 a3 a2 (1 : Int32))))) else (s_X6_unlike_45 E (s_X6_unlike_13 E n) a0 a1 a3 a2))))
theorem w_X6_unlike_13 (x : zCx p l R s m args meth c E D tA cX6_unlike 4 yX6_unlike.cls 17) (hl : l.stackTraces = false) (hret : meth.sig.returnType = (Option.some Jvm.ClassFile.FieldType.int)) (hnm : meth.name = yX6_unlike.name) (htab : ∀ z ∈ c.exceptionTable.toList, False) : ∀ (n : Nat) (a0 : Option Nat) (a1 : Int32) (a2 : Int32) (a3 : Int32), zW p l e R s m args below meth c E D tA 4 k0 (s_X6_unlike_13 E n a0 a1 a2 a3) [(0, zP a0), (1, zI a1), (2, zI a2), (3, zI a3)] 13 [] := by
  intro n
  induction n with
  | zero => intro a0 a1 a2 a3; exact z_fail
  | succ n h13 =>
    intro a0 a1 a2 a3
    rw [s_X6_unlike_13]
    refine z_iload_n (pc := 13) x 3 dX6_unlike_13 rfl rfl ?_
    refine z_sipush (pc := 14) x (v := (440 : Int32)) dX6_unlike_14 rfl ?_
    refine z_icmp_ge (pc := 17) (tgt := 54) x dX6_unlike_17 rfl (fun _ => ?_) (fun _ => ?_)
    · refine z_iload_n (pc := 54) x 2 dX6_unlike_54 rfl rfl ?_
      exact z_iret (pc := 55) x hret dX6_unlike_55
    · refine z_iload_n (pc := 20) x 2 dX6_unlike_20 rfl rfl ?_
      refine z_aload_n (pc := 21) x 0 dX6_unlike_21 rfl rfl ?_
      refine z_get (pc := 22) (fun _ _ h => zAsR_eq h) x in_X6 (ci := 34) rfl (k := 10) (by decide) q2795 (fun _ h => h) dX6_unlike_22 fun v22 => ?_
      refine z_iload_n (pc := 25) x 3 dX6_unlike_25 rfl rfl ?_
      refine z_zald (pc := 26) x (t := 2) rfl dX6_unlike_26 fun v26 => ?_
      refine z_iload_n (pc := 27) x 1 dX6_unlike_27 rfl rfl ?_
      refine z_icmp_ne (pc := 28) (tgt := 45) x dX6_unlike_28 rfl (fun _ => ?_) (fun _ => ?_)
      · refine z_aload_n (pc := 31) x 0 dX6_unlike_31 rfl rfl ?_
        refine z_get (pc := 32) (fun _ _ h => zAsR_eq h) x in_X6 (ci := 34) rfl (k := 9) (by decide) q2794 (fun _ h => h) dX6_unlike_32 fun v32 => ?_
        refine z_iload_n (pc := 35) x 3 dX6_unlike_35 rfl rfl ?_
        refine z_zald (pc := 36) x (t := 2) rfl dX6_unlike_36 fun v36 => ?_
        refine z_iload_n (pc := 37) x 1 dX6_unlike_37 rfl rfl ?_
        refine z_icmp_eq (pc := 38) (tgt := 45) x dX6_unlike_38 rfl (fun _ => ?_) (fun _ => ?_)
        · exact z_sub [0, 1, 3] rfl (w_X6_unlike_45 x hl hret hnm htab h13 a0 a1 a3 a2)
        · refine z_iconst (pc := 41) x (v := (1 : Int32)) dX6_unlike_41 rfl ?_
          refine z_goto (pc := 42) (tgt := 46) x dX6_unlike_42 rfl ?_
          exact z_sub [0, 1, 3] rfl (w_X6_unlike_46 x hl hret hnm htab h13 a0 a1 a3 a2 (1 : Int32))
      · exact z_sub [0, 1, 3] rfl (w_X6_unlike_45 x hl hret hnm htab h13 a0 a1 a3 a2)
def s_X6_unlike (E : zE) (a0 : Option Nat) (a1 : Int32) : zM := zC (zRv a0 [(34, fun b => s_X6_derives E (some b))]) zThr (zKV (zSetN E .boolean a0 34 20 (0 : Int32) (s_X6_unlike_13 E zN a0 a1 (0 : Int32) (0 : Int32))))
theorem m_X6_unlike {l : Launch} {E : zE} {D : va_G} {tA : Nat → ClassId} (hl : l.stackTraces = false) (a0 : Option Nat) (a1 : Int32) : zMet l E D tA yX6_unlike (ws_ yX6_unlike cX6_unlike 4 (Option.some Jvm.ClassFile.FieldType.int)) 17 (s_X6_unlike E a0 a1) [zP a0, zI a1] := by
  refine z_met hl (by decide +kernel) (by rw [zSl_len]; exact (Nat.le_of_ble_eq_true rfl)) fun p e R s m args below meth c k0 x hret hnm htab => ?_
  refine z_lv [(0, zP a0), (1, zI a1)] rfl ?_
  unfold s_X6_unlike
  refine z_aload_n (pc := 0) x 0 dX6_unlike_0 rfl rfl ?_
  refine z_call (pc := 1) (z_canV (pc := 1) (As := []) (st := []) x (ci := 34) rfl (fun b => m_X6_derives hl (some b)) q2927 q2929 (z_selP x (ci := 34) rfl (by decide) (zNi_inst x q2780) q2928 q2929) q121 q2930 n_X6_derives ⟨by decide, by decide⟩ (Nat.le_of_ble_eq_true rfl) dX6_unlike_1) (zv_V ?_) (fun q => zx_thr x (fun z hz => (htab z hz).elim) q)
  refine z_aload_n (pc := 4) x 0 dX6_unlike_4 rfl rfl ?_
  refine z_iconst (pc := 5) x (v := (0 : Int32)) dX6_unlike_5 rfl ?_
  refine z_set_small fun hn hf => ?_
  refine z_set (pc := 6) (v := zI (0 : Int32)) x in_X6 tyX6 tyX6_ok nmX6 (ci := 34) rfl (k := 20) (by decide) q2805 (fun _ h => h) rfl hn hf dX6_unlike_6 ?_
  refine z_iconst (pc := 9) x (v := (0 : Int32)) dX6_unlike_9 rfl ?_
  refine z_istore_n (pc := 10) (lv' := [(2, zI (0 : Int32)), (0, zP a0), (1, zI a1)]) x dX6_unlike_10 rfl (Nat.le_of_ble_eq_true rfl) rfl ?_
  refine z_iconst (pc := 11) x (v := (0 : Int32)) dX6_unlike_11 rfl ?_
  refine z_istore_n (pc := 12) (lv' := [(3, zI (0 : Int32)), (2, zI (0 : Int32)), (0, zP a0), (1, zI a1)]) x dX6_unlike_12 rfl (Nat.le_of_ble_eq_true rfl) rfl ?_
  exact z_sub [2, 3, 1, 0] rfl (w_X6_unlike_13 x hl hret hnm htab zN a0 a1 (0 : Int32) (0 : Int32))
/-! X6_takeFact -/
def s_X6_takeFact_36 (E : zE) (b0 : Option Nat) (b1 : Int32) : zM := zC (zRv b0 [(34, fun b => s_X6_ends E (some b) b1)]) zThr (zKI (fun v36 => zRet (some (.int v36))))
theorem w_X6_takeFact_36 (x : zCx p l R s m args meth c E D tA cX6_takeFact 4 yX6_takeFact.cls 19) (hl : l.stackTraces = false) (hret : meth.sig.returnType = (Option.some Jvm.ClassFile.FieldType.int)) (hnm : meth.name = yX6_takeFact.name) (htab : ∀ z ∈ c.exceptionTable.toList, False) (b0 : Option Nat) (b1 : Int32) : zW p l e R s m args below meth c E D tA 4 k0 (s_X6_takeFact_36 E b0 b1) [] 36 [zI b1, zP b0] := by
  unfold s_X6_takeFact_36
  refine z_call (pc := 36) (z_canV (pc := 36) (As := [zI b1]) (st := []) x (ci := 34) rfl (fun b => m_X6_ends hl (some b) b1) q2911 q2913 (z_selP x (ci := 34) rfl (by decide) (zNi_inst x q2780) q2912 q2913) q121 q2914 n_X6_ends ⟨by decide, by decide⟩ (Nat.le_of_ble_eq_true rfl) dX6_takeFact_36) (zv_I fun v36 => ?_) (fun q => zx_thr x (fun z hz => (htab z hz).elim) q)
  exact z_iret (pc := 39) x hret dX6_takeFact_39
def s_X6_takeFact (E : zE) (a0 : Option Nat) (a1 : Int32) (a2 : Int32) (a3 : Int32) : zM := zC (zRv a0 [(34, fun b => s_X6_remembers E (some b))]) zThr (zKV (zC (zRv a0 [(34, fun b => s_X6_keeps E (some b))]) zThr (zKV (zC (zRv a0 [(34, fun b => s_X6_takes E (some b) a1 a2 a3)]) zThr (zKI (fun v13 => zSet E a0 34 16 (zVal (zI v13)) (zGetI a0 34 13 (fun v21 => if v21 = 0 then (zC (zRv a0 [(34, fun b => s_X6_unlike E (some b) (1 : Int32))]) zThr (zKI (fun v33 => s_X6_takeFact_36 E a0 v33))) else (s_X6_takeFact_36 E a0 (0 : Int32))))))))))
theorem m_X6_takeFact {l : Launch} {E : zE} {D : va_G} {tA : Nat → ClassId} (hl : l.stackTraces = false) (a0 : Option Nat) (a1 : Int32) (a2 : Int32) (a3 : Int32) : zMet l E D tA yX6_takeFact (ws_ yX6_takeFact cX6_takeFact 4 (Option.some Jvm.ClassFile.FieldType.int)) 19 (s_X6_takeFact E a0 a1 a2 a3) [zP a0, zI a1, zI a2, zI a3] := by
  refine z_met hl (by decide +kernel) (by rw [zSl_len]; exact (Nat.le_of_ble_eq_true rfl)) fun p e R s m args below meth c k0 x hret hnm htab => ?_
  refine z_lv [(0, zP a0), (1, zI a1), (2, zI a2), (3, zI a3)] rfl ?_
  unfold s_X6_takeFact
  refine z_aload_n (pc := 0) x 0 dX6_takeFact_0 rfl rfl ?_
  refine z_call (pc := 1) (z_canV (pc := 1) (As := []) (st := []) x (ci := 34) rfl (fun b => m_X6_remembers hl (some b)) q2919 q2921 (z_selP x (ci := 34) rfl (by decide) (zNi_inst x q2780) q2920 q2921) q121 q2922 n_X6_remembers ⟨by decide, by decide⟩ (Nat.le_of_ble_eq_true rfl) dX6_takeFact_1) (zv_V ?_) (fun q => zx_thr x (fun z hz => (htab z hz).elim) q)
  refine z_aload_n (pc := 4) x 0 dX6_takeFact_4 rfl rfl ?_
  refine z_call (pc := 5) (z_canV (pc := 5) (As := []) (st := []) x (ci := 34) rfl (fun b => m_X6_keeps hl (some b)) q2878 q2880 (z_selP x (ci := 34) rfl (by decide) (zNi_inst x q2780) q2879 q2880) q121 q2881 n_X6_keeps ⟨by decide, by decide⟩ (Nat.le_of_ble_eq_true rfl) dX6_takeFact_5) (zv_V ?_) (fun q => zx_thr x (fun z hz => (htab z hz).elim) q)
  refine z_aload_n (pc := 8) x 0 dX6_takeFact_8 rfl rfl ?_
  refine z_aload_n (pc := 9) x 0 dX6_takeFact_9 rfl rfl ?_
  refine z_iload_n (pc := 10) x 1 dX6_takeFact_10 rfl rfl ?_
  refine z_iload_n (pc := 11) x 2 dX6_takeFact_11 rfl rfl ?_
  refine z_iload_n (pc := 12) x 3 dX6_takeFact_12 rfl rfl ?_
  refine z_call (pc := 13) (z_canV (pc := 13) (As := [zI a1, zI a2, zI a3]) (st := [zP a0]) x (ci := 34) rfl (fun b => m_X6_takes hl (some b) a1 a2 a3) q3004 q3006 (z_selP x (ci := 34) rfl (by decide) (zNi_inst x q2780) q3005 q3006) q121 q3007 n_X6_takes ⟨by decide, by decide⟩ (Nat.le_of_ble_eq_true rfl) dX6_takeFact_13) (zv_I fun v13 => ?_) (fun q => zx_thr x (fun z hz => (htab z hz).elim) q)
  refine z_set (pc := 16) (v := zI v13) x in_X6 tyX6 tyX6_ok nmX6 (ci := 34) rfl (k := 16) (by decide) q2801 (fun _ h => h) rfl rfl rfl dX6_takeFact_16 ?_
  refine z_aload_n (pc := 19) x 0 dX6_takeFact_19 rfl rfl ?_
  refine z_aload_n (pc := 20) x 0 dX6_takeFact_20 rfl rfl ?_
  refine z_get (pc := 21) (fun _ _ h => zAsI_eq h) x in_X6 (ci := 34) rfl (k := 13) (by decide) q2798 (fun _ h => h) dX6_takeFact_21 fun v21 => ?_
  refine z_if_eq (pc := 24) (tgt := 31) x dX6_takeFact_24 rfl (fun _ => ?_) (fun _ => ?_)
  · refine z_aload_n (pc := 31) x 0 dX6_takeFact_31 rfl rfl ?_
    refine z_iconst (pc := 32) x (v := (1 : Int32)) dX6_takeFact_32 rfl ?_
    refine z_call (pc := 33) (z_canV (pc := 33) (As := [zI (1 : Int32)]) (st := [zP a0]) x (ci := 34) rfl (fun b => m_X6_unlike hl (some b) (1 : Int32)) q3012 q3014 (z_selP x (ci := 34) rfl (by decide) (zNi_inst x q2780) q3013 q3014) q121 q3015 n_X6_unlike ⟨by decide, by decide⟩ (Nat.le_of_ble_eq_true rfl) dX6_takeFact_33) (zv_I fun v33 => ?_) (fun q => zx_thr x (fun z hz => (htab z hz).elim) q)
    exact z_sub [] rfl (w_X6_takeFact_36 x hl hret hnm htab a0 v33)
  · refine z_iconst (pc := 27) x (v := (0 : Int32)) dX6_takeFact_27 rfl ?_
    refine z_goto (pc := 28) (tgt := 36) x dX6_takeFact_28 rfl ?_
    exact z_sub [] rfl (w_X6_takeFact_36 x hl hret hnm htab a0 (0 : Int32))
/-! X6_isRule -/
def s_X6_isRule (E : zE) (a0 : Option Nat) (a1 : Int32) : zM := zGetR a0 34 0 (fun v3 => zGaI 0 v3 (3 : Int32) (fun v7 => zC (s_X6_isIn E a1 (0 : Int32) (v7 - (1 : Int32))) zThr (zKI (fun v10 => zRetN .boolean v10))))
theorem m_X6_isRule {l : Launch} {E : zE} {D : va_G} {tA : Nat → ClassId} (hl : l.stackTraces = false) (a0 : Option Nat) (a1 : Int32) : zMet l E D tA yX6_isRule (ws_ yX6_isRule cX6_isRule 2 (Option.some Jvm.ClassFile.FieldType.boolean)) 10 (s_X6_isRule E a0 a1) [zP a0, zI a1] := by
  refine z_met hl (by decide +kernel) (by rw [zSl_len]; exact (Nat.le_of_ble_eq_true rfl)) fun p e R s m args below meth c k0 x hret hnm htab => ?_
  refine z_lv [(0, zP a0), (1, zI a1)] rfl ?_
  unfold s_X6_isRule
  refine z_iload_n (pc := 0) x 1 dX6_isRule_0 rfl rfl ?_
  refine z_iconst (pc := 1) x (v := (0 : Int32)) dX6_isRule_1 rfl ?_
  refine z_aload_n (pc := 2) x 0 dX6_isRule_2 rfl rfl ?_
  refine z_get (pc := 3) (fun _ _ h => zAsR_eq h) x in_X6 (ci := 34) rfl (k := 0) (by decide) q2785 (fun _ h => h) dX6_isRule_3 fun v3 => ?_
  refine z_iconst (pc := 6) x (v := (3 : Int32)) dX6_isRule_6 rfl ?_
  refine z_iald (pc := 7) x (t := 0) rfl dX6_isRule_7 fun v7 => ?_
  refine z_iconst (pc := 8) x (v := (1 : Int32)) dX6_isRule_8 rfl ?_
  refine z_isub (pc := 9) x dX6_isRule_9 ?_
  refine z_call (pc := 10) (z_canS (pc := 10) (As := [zI a1, zI (0 : Int32), zI (v7 - (1 : Int32))]) (st := []) x (m_X6_isIn hl a1 (0 : Int32) (v7 - (1 : Int32))) q2895 q2896 q121 q2897 n_X6_isIn ⟨by decide, by decide⟩ (Nat.le_of_ble_eq_true rfl) dX6_isRule_10) (zv_I fun v10 => ?_) (fun q => zx_thr x (fun z hz => (htab z hz).elim) q)
  exact z_zret (pc := 13) x hret dX6_isRule_13
/-! X6_drops -/
def s_X6_drops_64 (E : zE) : Nat → Option Nat → Int32 → zM
  | 0, _, _ => zFail
  | n + 1, a0, a2 => if (1128 : Int32) ≤ a2 then (zGetR a0 34 0 (fun v85 => zGaI 0 v85 (3 : Int32) (fun v90 => zSaI E 0 v85 (3 : Int32) (v90 - (1 : Int32)) (zGetR a0 34 0 (fun v95 => zGaI 0 v95 (3 : Int32) (fun v99 => zRet (some (.int v99)))))))) else (zGetR a0 34 0 (fun v72 => zSaI E 0 v72 a2 (0 : Int32) ((s_X6_drops_64 E n) a0 (a2 + (1 : Int32)))))
theorem w_X6_drops_64 (x : zCx p l R s m args meth c E D tA cX6_drops 3 yX6_drops.cls 11) (hl : l.stackTraces = false) (hret : meth.sig.returnType = (Option.some Jvm.ClassFile.FieldType.int)) (hnm : meth.name = yX6_drops.name) (htab : ∀ z ∈ c.exceptionTable.toList, False) : ∀ (n : Nat) (a0 : Option Nat) (a2 : Int32), zW p l e R s m args below meth c E D tA 3 k0 (s_X6_drops_64 E n a0 a2) [(0, zP a0), (2, zI a2)] 64 [] := by
  intro n
  induction n with
  | zero => intro a0 a2; exact z_fail
  | succ n h64 =>
    intro a0 a2
    rw [s_X6_drops_64]
    refine z_iload_n (pc := 64) x 1 dX6_drops_64 rfl rfl ?_
    refine z_sipush (pc := 65) x (v := (1128 : Int32)) dX6_drops_65 rfl ?_
    refine z_icmp_ge (pc := 68) (tgt := 84) x dX6_drops_68 rfl (fun _ => ?_) (fun _ => ?_)
    · refine z_aload_n (pc := 84) x 0 dX6_drops_84 rfl rfl ?_
      refine z_get (pc := 85) (fun _ _ h => zAsR_eq h) x in_X6 (ci := 34) rfl (k := 0) (by decide) q2785 (fun _ h => h) dX6_drops_85 fun v85 => ?_
      refine z_iconst (pc := 88) x (v := (3 : Int32)) dX6_drops_88 rfl ?_
      refine z_dup2 (pc := 89) x dX6_drops_89 rfl rfl ?_
      refine z_iald (pc := 90) x (t := 0) rfl dX6_drops_90 fun v90 => ?_
      refine z_iconst (pc := 91) x (v := (1 : Int32)) dX6_drops_91 rfl ?_
      refine z_isub (pc := 92) x dX6_drops_92 ?_
      refine z_iast (pc := 93) x (t := 0) rfl dX6_drops_93 ?_
      refine z_aload_n (pc := 94) x 0 dX6_drops_94 rfl rfl ?_
      refine z_get (pc := 95) (fun _ _ h => zAsR_eq h) x in_X6 (ci := 34) rfl (k := 0) (by decide) q2785 (fun _ h => h) dX6_drops_95 fun v95 => ?_
      refine z_iconst (pc := 98) x (v := (3 : Int32)) dX6_drops_98 rfl ?_
      refine z_iald (pc := 99) x (t := 0) rfl dX6_drops_99 fun v99 => ?_
      exact z_iret (pc := 100) x hret dX6_drops_100
    · refine z_aload_n (pc := 71) x 0 dX6_drops_71 rfl rfl ?_
      refine z_get (pc := 72) (fun _ _ h => zAsR_eq h) x in_X6 (ci := 34) rfl (k := 0) (by decide) q2785 (fun _ h => h) dX6_drops_72 fun v72 => ?_
      refine z_iload_n (pc := 75) x 1 dX6_drops_75 rfl rfl ?_
      refine z_iconst (pc := 76) x (v := (0 : Int32)) dX6_drops_76 rfl ?_
      refine z_iast (pc := 77) x (t := 0) rfl dX6_drops_77 ?_
      refine z_iinc (pc := 78) (lv' := [(2, zI (a2 + (1 : Int32))), (0, zP a0)]) x (v2 := (a2 + (1 : Int32))) 1 dX6_drops_78 rfl rfl (Nat.le_of_ble_eq_true rfl) rfl ?_
      refine z_goto (pc := 81) (tgt := 64) x dX6_drops_81 rfl ?_
      exact z_sub [1, 0] rfl (h64 a0 (a2 + (1 : Int32)))
def s_X6_drops_32 (E : zE) : Nat → Option Nat → Int32 → zM
  | 0, _, _ => zFail
  | n + 1, a0, a2 => if (1052 : Int32) ≤ a2 then (s_X6_drops_64 E zN a0 (1052 : Int32)) else (zGetR a0 34 0 (fun v40 => zGetR a0 34 0 (fun v45 => zGaI 0 v45 (a2 + (76 : Int32)) (fun v52 => zSaI E 0 v40 a2 v52 ((s_X6_drops_32 E n) a0 (a2 + (1 : Int32)))))))
theorem w_X6_drops_32 (x : zCx p l R s m args meth c E D tA cX6_drops 3 yX6_drops.cls 11) (hl : l.stackTraces = false) (hret : meth.sig.returnType = (Option.some Jvm.ClassFile.FieldType.int)) (hnm : meth.name = yX6_drops.name) (htab : ∀ z ∈ c.exceptionTable.toList, False) : ∀ (n : Nat) (a0 : Option Nat) (a2 : Int32), zW p l e R s m args below meth c E D tA 3 k0 (s_X6_drops_32 E n a0 a2) [(0, zP a0), (2, zI a2)] 32 [] := by
  intro n
  induction n with
  | zero => intro a0 a2; exact z_fail
  | succ n h32 =>
    intro a0 a2
    rw [s_X6_drops_32]
    refine z_iload_n (pc := 32) x 1 dX6_drops_32 rfl rfl ?_
    refine z_sipush (pc := 33) x (v := (1052 : Int32)) dX6_drops_33 rfl ?_
    refine z_icmp_ge (pc := 36) (tgt := 60) x dX6_drops_36 rfl (fun _ => ?_) (fun _ => ?_)
    · refine z_sipush (pc := 60) x (v := (1052 : Int32)) dX6_drops_60 rfl ?_
      refine z_istore_n (pc := 63) (lv' := [(2, zI (1052 : Int32)), (0, zP a0)]) x dX6_drops_63 rfl (Nat.le_of_ble_eq_true rfl) rfl ?_
      exact z_sub [1, 0] rfl (w_X6_drops_64 x hl hret hnm htab zN a0 (1052 : Int32))
    · refine z_aload_n (pc := 39) x 0 dX6_drops_39 rfl rfl ?_
      refine z_get (pc := 40) (fun _ _ h => zAsR_eq h) x in_X6 (ci := 34) rfl (k := 0) (by decide) q2785 (fun _ h => h) dX6_drops_40 fun v40 => ?_
      refine z_iload_n (pc := 43) x 1 dX6_drops_43 rfl rfl ?_
      refine z_aload_n (pc := 44) x 0 dX6_drops_44 rfl rfl ?_
      refine z_get (pc := 45) (fun _ _ h => zAsR_eq h) x in_X6 (ci := 34) rfl (k := 0) (by decide) q2785 (fun _ h => h) dX6_drops_45 fun v45 => ?_
      refine z_iload_n (pc := 48) x 1 dX6_drops_48 rfl rfl ?_
      refine z_bipush (pc := 49) x (v := (76 : Int32)) dX6_drops_49 rfl ?_
      refine z_iadd (pc := 51) x dX6_drops_51 ?_
      refine z_iald (pc := 52) x (t := 0) rfl dX6_drops_52 fun v52 => ?_
      refine z_iast (pc := 53) x (t := 0) rfl dX6_drops_53 ?_
      refine z_iinc (pc := 54) (lv' := [(2, zI (a2 + (1 : Int32))), (0, zP a0)]) x (v2 := (a2 + (1 : Int32))) 1 dX6_drops_54 rfl rfl (Nat.le_of_ble_eq_true rfl) rfl ?_
      refine z_goto (pc := 57) (tgt := 32) x dX6_drops_57 rfl ?_
      exact z_sub [1, 0] rfl (h32 a0 (a2 + (1 : Int32)))
def s_X6_drops_14 (E : zE) (a0 : Option Nat) (a1 : Int32) (b0 : Option Nat) (b1 : Int32) : zM := zC (zRv b0 [(34, fun b => s_X6_isThrown E (some b) b1 (1 : Int32))]) zThr (zKI (fun v15 => if v15 = 0 then (s_X6_drops_32 E zN a0 ((444 : Int32) + ((76 : Int32) * a1))) else (zRet (some (.int (0 : Int32))))))
theorem w_X6_drops_14 (x : zCx p l R s m args meth c E D tA cX6_drops 3 yX6_drops.cls 11) (hl : l.stackTraces = false) (hret : meth.sig.returnType = (Option.some Jvm.ClassFile.FieldType.int)) (hnm : meth.name = yX6_drops.name) (htab : ∀ z ∈ c.exceptionTable.toList, False) (a0 : Option Nat) (a1 : Int32) (b0 : Option Nat) (b1 : Int32) : zW p l e R s m args below meth c E D tA 3 k0 (s_X6_drops_14 E a0 a1 b0 b1) [(0, zP a0), (1, zI a1)] 14 [zI b1, zP b0] := by
  unfold s_X6_drops_14
  refine z_iconst (pc := 14) x (v := (1 : Int32)) dX6_drops_14 rfl ?_
  refine z_call (pc := 15) (z_canV (pc := 15) (As := [zI b1, zI (1 : Int32)]) (st := []) x (ci := 34) rfl (fun b => m_X6_isThrown hl (some b) b1 (1 : Int32)) q2898 q2900 (z_selP x (ci := 34) rfl (by decide) (zNi_inst x q2780) q2899 q2900) q121 q2901 n_X6_isThrown ⟨by decide, by decide⟩ (Nat.le_of_ble_eq_true rfl) dX6_drops_15) (zv_I fun v15 => ?_) (fun q => zx_thr x (fun z hz => (htab z hz).elim) q)
  refine z_if_eq (pc := 18) (tgt := 23) x dX6_drops_18 rfl (fun _ => ?_) (fun _ => ?_)
  · refine z_sipush (pc := 23) x (v := (444 : Int32)) dX6_drops_23 rfl ?_
    refine z_bipush (pc := 26) x (v := (76 : Int32)) dX6_drops_26 rfl ?_
    refine z_iload_n (pc := 28) x 1 dX6_drops_28 rfl rfl ?_
    refine z_imul (pc := 29) x dX6_drops_29 ?_
    refine z_iadd (pc := 30) x dX6_drops_30 ?_
    refine z_istore_n (pc := 31) (lv' := [(2, zI ((444 : Int32) + ((76 : Int32) * a1))), (0, zP a0), (1, zI a1)]) x dX6_drops_31 rfl (Nat.le_of_ble_eq_true rfl) rfl ?_
    exact z_sub [1, 0] rfl (w_X6_drops_32 x hl hret hnm htab zN a0 ((444 : Int32) + ((76 : Int32) * a1)))
  · refine z_iconst (pc := 21) x (v := (0 : Int32)) dX6_drops_21 rfl ?_
    exact z_iret (pc := 22) x hret dX6_drops_22
def s_X6_drops (E : zE) (a0 : Option Nat) (a1 : Int32) : zM := zC (zRv a0 [(34, fun b => s_X6_isRule E (some b) a1)]) zThr (zKI (fun v3 => if v3 = 0 then (s_X6_drops_14 E a0 a1 a0 (1 : Int32)) else (s_X6_drops_14 E a0 a1 a0 (0 : Int32))))
theorem m_X6_drops {l : Launch} {E : zE} {D : va_G} {tA : Nat → ClassId} (hl : l.stackTraces = false) (a0 : Option Nat) (a1 : Int32) : zMet l E D tA yX6_drops (ws_ yX6_drops cX6_drops 3 (Option.some Jvm.ClassFile.FieldType.int)) 11 (s_X6_drops E a0 a1) [zP a0, zI a1] := by
  refine z_met hl (by decide +kernel) (by rw [zSl_len]; exact (Nat.le_of_ble_eq_true rfl)) fun p e R s m args below meth c k0 x hret hnm htab => ?_
  refine z_lv [(0, zP a0), (1, zI a1)] rfl ?_
  unfold s_X6_drops
  refine z_aload_n (pc := 0) x 0 dX6_drops_0 rfl rfl ?_
  refine z_aload_n (pc := 1) x 0 dX6_drops_1 rfl rfl ?_
  refine z_iload_n (pc := 2) x 1 dX6_drops_2 rfl rfl ?_
  refine z_call (pc := 3) (z_canV (pc := 3) (As := [zI a1]) (st := [zP a0]) x (ci := 34) rfl (fun b => m_X6_isRule hl (some b) a1) q3024 q3026 (z_selP x (ci := 34) rfl (by decide) (zNi_inst x q2780) q3025 q3026) q121 q3027 n_X6_isRule ⟨by decide, by decide⟩ (Nat.le_of_ble_eq_true rfl) dX6_drops_3) (zv_I fun v3 => ?_) (fun q => zx_thr x (fun z hz => (htab z hz).elim) q)
  refine z_if_ne (pc := 6) (tgt := 13) x dX6_drops_6 rfl (fun _ => ?_) (fun _ => ?_)
  · refine z_iconst (pc := 9) x (v := (1 : Int32)) dX6_drops_9 rfl ?_
    refine z_goto (pc := 10) (tgt := 14) x dX6_drops_10 rfl ?_
    exact z_sub [0, 1] rfl (w_X6_drops_14 x hl hret hnm htab a0 a1 a0 (1 : Int32))
  · refine z_iconst (pc := 13) x (v := (0 : Int32)) dX6_drops_13 rfl ?_
    exact z_sub [0, 1] rfl (w_X6_drops_14 x hl hret hnm htab a0 a1 a0 (0 : Int32))
/-! X6_dropRule -/
def s_X6_dropRule (E : zE) (a0 : Option Nat) (a1 : Int32) : zM := zC (zRv a0 [(34, fun b => s_X6_keeps E (some b))]) zThr (zKV (zC (zRv a0 [(34, fun b => s_X6_drops E (some b) a1)]) zThr (zKI (fun v7 => zC (zRv a0 [(34, fun b => s_X6_ends E (some b) v7)]) zThr (zKI (fun v10 => zRet (some (.int v10))))))))
theorem m_X6_dropRule {l : Launch} {E : zE} {D : va_G} {tA : Nat → ClassId} (hl : l.stackTraces = false) (a0 : Option Nat) (a1 : Int32) : zMet l E D tA yX6_dropRule (ws_ yX6_dropRule cX6_dropRule 2 (Option.some Jvm.ClassFile.FieldType.int)) 12 (s_X6_dropRule E a0 a1) [zP a0, zI a1] := by
  refine z_met hl (by decide +kernel) (by rw [zSl_len]; exact (Nat.le_of_ble_eq_true rfl)) fun p e R s m args below meth c k0 x hret hnm htab => ?_
  refine z_lv [(0, zP a0), (1, zI a1)] rfl ?_
  unfold s_X6_dropRule
  refine z_aload_n (pc := 0) x 0 dX6_dropRule_0 rfl rfl ?_
  refine z_call (pc := 1) (z_canV (pc := 1) (As := []) (st := []) x (ci := 34) rfl (fun b => m_X6_keeps hl (some b)) q2878 q2880 (z_selP x (ci := 34) rfl (by decide) (zNi_inst x q2780) q2879 q2880) q121 q2881 n_X6_keeps ⟨by decide, by decide⟩ (Nat.le_of_ble_eq_true rfl) dX6_dropRule_1) (zv_V ?_) (fun q => zx_thr x (fun z hz => (htab z hz).elim) q)
  refine z_aload_n (pc := 4) x 0 dX6_dropRule_4 rfl rfl ?_
  refine z_aload_n (pc := 5) x 0 dX6_dropRule_5 rfl rfl ?_
  refine z_iload_n (pc := 6) x 1 dX6_dropRule_6 rfl rfl ?_
  refine z_call (pc := 7) (z_canV (pc := 7) (As := [zI a1]) (st := [zP a0]) x (ci := 34) rfl (fun b => m_X6_drops hl (some b) a1) q3020 q3022 (z_selP x (ci := 34) rfl (by decide) (zNi_inst x q2780) q3021 q3022) q121 q3023 n_X6_drops ⟨by decide, by decide⟩ (Nat.le_of_ble_eq_true rfl) dX6_dropRule_7) (zv_I fun v7 => ?_) (fun q => zx_thr x (fun z hz => (htab z hz).elim) q)
  refine z_call (pc := 10) (z_canV (pc := 10) (As := [zI v7]) (st := []) x (ci := 34) rfl (fun b => m_X6_ends hl (some b) v7) q2911 q2913 (z_selP x (ci := 34) rfl (by decide) (zNi_inst x q2780) q2912 q2913) q121 q2914 n_X6_ends ⟨by decide, by decide⟩ (Nat.le_of_ble_eq_true rfl) dX6_dropRule_10) (zv_I fun v10 => ?_) (fun q => zx_thr x (fun z hz => (htab z hz).elim) q)
  exact z_iret (pc := 13) x hret dX6_dropRule_13
/-! X6_givenCount -/
def s_X6_givenCount (E : zE) (a0 : Option Nat) : zM := zSet E a0 34 13 (zVal (zI (0 : Int32))) (zGetR a0 34 0 (fun v6 => zGaI 0 v6 (0 : Int32) (fun v10 => zRet (some (.int v10)))))
theorem m_X6_givenCount {l : Launch} {E : zE} {D : va_G} {tA : Nat → ClassId} (hl : l.stackTraces = false) (a0 : Option Nat) : zMet l E D tA yX6_givenCount (ws_ yX6_givenCount cX6_givenCount 1 (Option.some Jvm.ClassFile.FieldType.int)) 9 (s_X6_givenCount E a0) [zP a0] := by
  refine z_met hl (by decide +kernel) (by rw [zSl_len]; exact (Nat.le_of_ble_eq_true rfl)) fun p e R s m args below meth c k0 x hret hnm htab => ?_
  refine z_lv [(0, zP a0)] rfl ?_
  unfold s_X6_givenCount
  refine z_aload_n (pc := 0) x 0 dX6_givenCount_0 rfl rfl ?_
  refine z_iconst (pc := 1) x (v := (0 : Int32)) dX6_givenCount_1 rfl ?_
  refine z_set (pc := 2) (v := zI (0 : Int32)) x in_X6 tyX6 tyX6_ok nmX6 (ci := 34) rfl (k := 13) (by decide) q2798 (fun _ h => h) rfl rfl rfl dX6_givenCount_2 ?_
  refine z_aload_n (pc := 5) x 0 dX6_givenCount_5 rfl rfl ?_
  refine z_get (pc := 6) (fun _ _ h => zAsR_eq h) x in_X6 (ci := 34) rfl (k := 0) (by decide) q2785 (fun _ h => h) dX6_givenCount_6 fun v6 => ?_
  refine z_iconst (pc := 9) x (v := (0 : Int32)) dX6_givenCount_9 rfl ?_
  refine z_iald (pc := 10) x (t := 0) rfl dX6_givenCount_10 fun v10 => ?_
  exact z_iret (pc := 11) x hret dX6_givenCount_11
end ZGEN6
