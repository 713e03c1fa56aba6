/-! ===== walks (by program) ===== -/
set_option maxRecDepth 100000
set_option linter.unusedVariables false
section ZGEN4
variable {p : Program} {l : Launch} {e : Env} {R : Room} {s : State} {m : MethodId} {args : Array Value} {below : List Frame} {meth : Method} {c : Code} {E : zE} {D : va_G} {tA : Nat → ClassId} {k0 : Nat}
/-! X12_sumOfTrue -/
def s_X12_sumOfTrue_46 (E : zE) (k4 : Option Nat → Int32 → Int32 → zM) (k12 : Option Nat → Int32 → Int32 → Int32 → zM) (a0 : Option Nat) (a2 : Int32) (a3 : Int32) (b0 : Int32) (b1 : Int32) : zM := k12 a0 (b0 + b1) a2 (a3 + (1 : Int32))
theorem w_X12_sumOfTrue_46 (x : zCx p l R s m args meth c E D tA cX12_sumOfTrue 4 yX12_sumOfTrue.cls 73) (hl : l.stackTraces = false) (hret : meth.sig.returnType = (Option.some Jvm.ClassFile.FieldType.int)) (hnm : meth.name = yX12_sumOfTrue.name) (htab : ∀ z ∈ c.exceptionTable.toList, False) {k4 : Option Nat → Int32 → Int32 → zM} (h4 : ∀ (a0 : Option Nat) (a1 : Int32) (a2 : Int32) , zW p l e R s m args below meth c E D tA 4 k0 (k4 a0 a1 a2) [(0, zP a0), (1, zI a1), (2, zI a2)] 4 []) {k12 : Option Nat → Int32 → Int32 → Int32 → zM} (h12 : ∀ (a0 : Option Nat) (a1 : Int32) (a2 : Int32) (a3 : Int32) , zW p l e R s m args below meth c E D tA 4 k0 (k12 a0 a1 a2 a3) [(0, zP a0), (1, zI a1), (2, zI a2), (3, zI a3)] 12 []) (a0 : Option Nat) (a2 : Int32) (a3 : Int32) (b0 : Int32) (b1 : Int32) : zW p l e R s m args below meth c E D tA 4 k0 (s_X12_sumOfTrue_46 E k4 k12 a0 a2 a3 b0 b1) [(0, zP a0), (2, zI a2), (3, zI a3)] 46 [zI b1, zI b0] := by
  unfold s_X12_sumOfTrue_46
  refine z_iadd (pc := 46) x dX12_sumOfTrue_46 ?_
  refine z_istore_n (pc := 47) (lv' := [(1, zI (b0 + b1)), (0, zP a0), (2, zI a2), (3, zI a3)]) x dX12_sumOfTrue_47 rfl (Nat.le_of_ble_eq_true rfl) rfl ?_
  refine z_iinc (pc := 48) (lv' := [(3, zI (a3 + (1 : Int32))), (1, zI (b0 + b1)), (0, zP a0), (2, zI a2)]) x (v2 := (a3 + (1 : Int32))) 3 dX12_sumOfTrue_48 rfl rfl (Nat.le_of_ble_eq_true rfl) rfl ?_
  refine z_goto (pc := 51) (tgt := 12) x dX12_sumOfTrue_51 rfl ?_
  exact z_sub [2, 1, 3, 0] rfl (h12 a0 (b0 + b1) a2 (a3 + (1 : Int32)))
def s_X12_sumOfTrue_12 (E : zE) (k4 : Option Nat → Int32 → Int32 → zM) : Nat → Option Nat → Int32 → Int32 → Int32 → zM
  | 0, _, _, _, _ => zFail
  | n + 1, a0, a1, a2, a3 => if (100 : Int32) ≤ a3 then (k4 a0 a1 (a2 + (1 : Int32))) else (zGetR a0 18 0 (fun v20 => zC (zRv v20 [(26, fun b => s_X2_facts E (some b))]) zThr (zKR (fun v23 => zC (zRv v23 [(32, fun b => s_X4_has E (some b) a2 a3)]) zThr (zKI (fun v28 => if v28 = 0 then (s_X12_sumOfTrue_46 E k4 (s_X12_sumOfTrue_12 E k4 n) a0 a2 a3 a1 (0 : Int32)) else (zGetR a0 18 1 (fun v35 => zGaR 7 v35 a2 (fun v39 => zGaI 0 v39 a3 (fun v41 => s_X12_sumOfTrue_46 E k4 (s_X12_sumOfTrue_12 E k4 n) a0 a2 a3 a1 v41))))))))))
theorem w_X12_sumOfTrue_12 (x : zCx p l R s m args meth c E D tA cX12_sumOfTrue 4 yX12_sumOfTrue.cls 73) (hl : l.stackTraces = false) (hret : meth.sig.returnType = (Option.some Jvm.ClassFile.FieldType.int)) (hnm : meth.name = yX12_sumOfTrue.name) (htab : ∀ z ∈ c.exceptionTable.toList, False) {k4 : Option Nat → Int32 → Int32 → zM} (h4 : ∀ (a0 : Option Nat) (a1 : Int32) (a2 : Int32) , zW p l e R s m args below meth c E D tA 4 k0 (k4 a0 a1 a2) [(0, zP a0), (1, zI a1), (2, zI a2)] 4 []) : ∀ (n : Nat) (a0 : Option Nat) (a1 : Int32) (a2 : Int32) (a3 : Int32), zW p l e R s m args below meth c E D tA 4 k0 (s_X12_sumOfTrue_12 E k4 n a0 a1 a2 a3) [(0, zP a0), (1, zI a1), (2, zI a2), (3, zI a3)] 12 [] := by
  intro n
  induction n with
  | zero => intro a0 a1 a2 a3; exact z_fail
  | succ n h12 =>
    intro a0 a1 a2 a3
    rw [s_X12_sumOfTrue_12]
    refine z_iload_n (pc := 12) x 3 dX12_sumOfTrue_12 rfl rfl ?_
    refine z_bipush (pc := 13) x (v := (100 : Int32)) dX12_sumOfTrue_13 rfl ?_
    refine z_icmp_ge (pc := 15) (tgt := 54) x dX12_sumOfTrue_15 rfl (fun _ => ?_) (fun _ => ?_)
    · refine z_iinc (pc := 54) (lv' := [(2, zI (a2 + (1 : Int32))), (0, zP a0), (1, zI a1), (3, zI a3)]) x (v2 := (a2 + (1 : Int32))) 2 dX12_sumOfTrue_54 rfl rfl (Nat.le_of_ble_eq_true rfl) rfl ?_
      refine z_goto (pc := 57) (tgt := 4) x dX12_sumOfTrue_57 rfl ?_
      exact z_sub [1, 2, 0] rfl (h4 a0 a1 (a2 + (1 : Int32)))
    · refine z_iload_n (pc := 18) x 1 dX12_sumOfTrue_18 rfl rfl ?_
      refine z_aload_n (pc := 19) x 0 dX12_sumOfTrue_19 rfl rfl ?_
      refine z_get (pc := 20) (fun _ _ h => zAsR_eq h) x in_X12 (ci := 18) rfl (k := 0) (by decide) q998 (fun _ h => h) dX12_sumOfTrue_20 fun v20 => ?_
      refine z_call (pc := 23) (z_canV (pc := 23) (As := []) (st := [zI a1]) x (ci := 26) rfl (fun b => m_X2_facts hl (some b)) q1031 q369 (x.2.2.2.2.1 _ q370) q109 q371 n_X2_facts ⟨by decide, by decide⟩ (Nat.le_of_ble_eq_true rfl) dX12_sumOfTrue_23) (zv_R fun v23 => ?_) (fun q => zx_thr x (fun z hz => (htab z hz).elim) q)
      refine z_iload_n (pc := 26) x 2 dX12_sumOfTrue_26 rfl rfl ?_
      refine z_iload_n (pc := 27) x 3 dX12_sumOfTrue_27 rfl rfl ?_
      refine z_call (pc := 28) (z_canV (pc := 28) (As := [zI a2, zI a3]) (st := [zI a1]) x (ci := 32) rfl (fun b => m_X4_has hl (some b) a2 a3) q997 q814 (x.2.2.2.2.1 _ q815) q114 q816 n_X4_has ⟨by decide, by decide⟩ (Nat.le_of_ble_eq_true rfl) dX12_sumOfTrue_28) (zv_I fun v28 => ?_) (fun q => zx_thr x (fun z hz => (htab z hz).elim) q)
      refine z_if_eq (pc := 31) (tgt := 45) x dX12_sumOfTrue_31 rfl (fun _ => ?_) (fun _ => ?_)
      · refine z_iconst (pc := 45) x (v := (0 : Int32)) dX12_sumOfTrue_45 rfl ?_
        exact z_sub [0, 2, 3] rfl (w_X12_sumOfTrue_46 x hl hret hnm htab h4 h12 a0 a2 a3 a1 (0 : Int32))
      · refine z_aload_n (pc := 34) x 0 dX12_sumOfTrue_34 rfl rfl ?_
        refine z_get (pc := 35) (fun _ _ h => zAsR_eq h) x in_X12 (ci := 18) rfl (k := 1) (by decide) q999 (fun _ h => h) dX12_sumOfTrue_35 fun v35 => ?_
        refine z_iload_n (pc := 38) x 2 dX12_sumOfTrue_38 rfl rfl ?_
        refine z_aald (pc := 39) x (t := 7) rfl rfl dX12_sumOfTrue_39 fun v39 => ?_
        refine z_iload_n (pc := 40) x 3 dX12_sumOfTrue_40 rfl rfl ?_
        refine z_iald (pc := 41) x (t := 0) rfl dX12_sumOfTrue_41 fun v41 => ?_
        refine z_goto (pc := 42) (tgt := 46) x dX12_sumOfTrue_42 rfl ?_
        exact z_sub [0, 2, 3] rfl (w_X12_sumOfTrue_46 x hl hret hnm htab h4 h12 a0 a2 a3 a1 v41)
def s_X12_sumOfTrue_4 (E : zE) : Nat → Option Nat → Int32 → Int32 → zM
  | 0, _, _, _ => zFail
  | n + 1, a0, a1, a2 => if (8 : Int32) ≤ a2 then (zRet (some (.int a1))) else (s_X12_sumOfTrue_12 E (s_X12_sumOfTrue_4 E n) zN a0 a1 a2 (0 : Int32))
theorem w_X12_sumOfTrue_4 (x : zCx p l R s m args meth c E D tA cX12_sumOfTrue 4 yX12_sumOfTrue.cls 73) (hl : l.stackTraces = false) (hret : meth.sig.returnType = (Option.some Jvm.ClassFile.FieldType.int)) (hnm : meth.name = yX12_sumOfTrue.name) (htab : ∀ z ∈ c.exceptionTable.toList, False) : ∀ (n : Nat) (a0 : Option Nat) (a1 : Int32) (a2 : Int32), zW p l e R s m args below meth c E D tA 4 k0 (s_X12_sumOfTrue_4 E n a0 a1 a2) [(0, zP a0), (1, zI a1), (2, zI a2)] 4 [] := by
  intro n
  induction n with
  | zero => intro a0 a1 a2; exact z_fail
  | succ n h4 =>
    intro a0 a1 a2
    rw [s_X12_sumOfTrue_4]
    refine z_iload_n (pc := 4) x 2 dX12_sumOfTrue_4 rfl rfl ?_
    refine z_bipush (pc := 5) x (v := (8 : Int32)) dX12_sumOfTrue_5 rfl ?_
    refine z_icmp_ge (pc := 7) (tgt := 60) x dX12_sumOfTrue_7 rfl (fun _ => ?_) (fun _ => ?_)
    · refine z_iload_n (pc := 60) x 1 dX12_sumOfTrue_60 rfl rfl ?_
      exact z_iret (pc := 61) x hret dX12_sumOfTrue_61
    · refine z_iconst (pc := 10) x (v := (0 : Int32)) dX12_sumOfTrue_10 rfl ?_
      refine z_istore_n (pc := 11) (lv' := [(3, zI (0 : Int32)), (0, zP a0), (1, zI a1), (2, zI a2)]) x dX12_sumOfTrue_11 rfl (Nat.le_of_ble_eq_true rfl) rfl ?_
      exact z_sub [1, 2, 3, 0] rfl (w_X12_sumOfTrue_12 x hl hret hnm htab h4 zN a0 a1 a2 (0 : Int32))
def s_X12_sumOfTrue (E : zE) (a0 : Option Nat) : zM := s_X12_sumOfTrue_4 E zN a0 (0 : Int32) (0 : Int32)
theorem m_X12_sumOfTrue {l : Launch} {E : zE} {D : va_G} {tA : Nat → ClassId} (hl : l.stackTraces = false) (a0 : Option Nat) : zMet l E D tA yX12_sumOfTrue (ws_ yX12_sumOfTrue cX12_sumOfTrue 4 (Option.some Jvm.ClassFile.FieldType.int)) 73 (s_X12_sumOfTrue E a0) [zP a0] := by
  refine z_met hl (by decide +kernel) (by rw [zSl_len]; exact (Nat.le_of_ble_eq_true rfl)) fun p e R s m args below meth c k0 x hret hnm htab => ?_
  refine z_lv [(0, zP a0)] rfl ?_
  unfold s_X12_sumOfTrue
  refine z_iconst (pc := 0) x (v := (0 : Int32)) dX12_sumOfTrue_0 rfl ?_
  refine z_istore_n (pc := 1) (lv' := [(1, zI (0 : Int32)), (0, zP a0)]) x dX12_sumOfTrue_1 rfl (Nat.le_of_ble_eq_true rfl) rfl ?_
  refine z_iconst (pc := 2) x (v := (0 : Int32)) dX12_sumOfTrue_2 rfl ?_
  refine z_istore_n (pc := 3) (lv' := [(2, zI (0 : Int32)), (1, zI (0 : Int32)), (0, zP a0)]) x dX12_sumOfTrue_3 rfl (Nat.le_of_ble_eq_true rfl) rfl ?_
  exact z_sub [2, 1, 0] rfl (w_X12_sumOfTrue_4 x hl hret hnm htab zN a0 (0 : Int32) (0 : Int32))
/-! X1_meanHeight -/
def s_X1_meanHeight (E : zE) (a0 : Option Nat) : zM := zGetR a0 16 0 (fun v1 => zC (zRv v1 [(26, fun b => s_X2_facts E (some b))]) zThr (zKR (fun v4 => zC (zRv v4 [(32, fun b => s_X4_count E (some b))]) zThr (zKI (fun v7 => zC (s_X1_requireSome E v7) zThr (zKV (zNew 18 2 [.null, .null] (fun v15 => zGetR a0 16 0 (fun v20 => zC (zSp v15 (fun b => s_X12_init E (some b) v20)) zThr (zKV (zC (zRv v15 [(18, fun b => s_X12_inRounds E (some b))]) zThr (zKR (fun v26 => zC (zRv v26 [(18, fun b => s_X12_sumOfTrue E (some b))]) zThr (zKI (fun v29 => zNn64 (FP.ddiv ((FP.i2d v29)) ((FP.i2d v7))) (fun v35 => zRet (some (.double v35))))))))))))))))))
theorem m_X1_meanHeight {l : Launch} {E : zE} {D : va_G} {tA : Nat → ClassId} (hl : l.stackTraces = false) (a0 : Option Nat) : zMet l E D tA yX1_meanHeight (ws_ yX1_meanHeight cX1_meanHeight 2 (Option.some Jvm.ClassFile.FieldType.double)) 75 (s_X1_meanHeight E a0) [zP a0] := by
  refine z_met hl (by decide +kernel) (by rw [zSl_len]; exact (Nat.le_of_ble_eq_true rfl)) fun p e R s m args below meth c k0 x hret hnm htab => ?_
  refine z_lv [(0, zP a0)] rfl ?_
  unfold s_X1_meanHeight
  refine z_aload_n (pc := 0) x 0 dX1_meanHeight_0 rfl rfl ?_
  refine z_get (pc := 1) (fun _ _ h => zAsR_eq h) x in_X1 (ci := 16) rfl (k := 0) (by decide) q320 (fun _ h => h) dX1_meanHeight_1 fun v1 => ?_
  refine z_call (pc := 4) (z_canV (pc := 4) (As := []) (st := []) x (ci := 26) rfl (fun b => m_X2_facts hl (some b)) q368 q369 (x.2.2.2.2.1 _ q370) q109 q371 n_X2_facts ⟨by decide, by decide⟩ (Nat.le_of_ble_eq_true rfl) dX1_meanHeight_4) (zv_R fun v4 => ?_) (fun q => zx_thr x (fun z hz => (htab z hz).elim) q)
  refine z_call (pc := 7) (z_canV (pc := 7) (As := []) (st := []) x (ci := 32) rfl (fun b => m_X4_count hl (some b)) q350 q351 (x.2.2.2.2.1 _ q352) q114 q353 n_X4_count ⟨by decide, by decide⟩ (Nat.le_of_ble_eq_true rfl) dX1_meanHeight_7) (zv_I fun v7 => ?_) (fun q => zx_thr x (fun z hz => (htab z hz).elim) q)
  refine z_istore_n (pc := 10) (lv' := [(1, zI v7), (0, zP a0)]) x dX1_meanHeight_10 rfl (Nat.le_of_ble_eq_true rfl) rfl ?_
  refine z_iload_n (pc := 11) x 0 dX1_meanHeight_11 rfl rfl ?_
  refine z_call (pc := 12) (z_canS (pc := 12) (As := [zI v7]) (st := []) x (m_X1_requireSome hl v7) q2121 q2122 q108 q2123 n_X1_requireSome ⟨by decide, by decide⟩ (Nat.le_of_ble_eq_true rfl) dX1_meanHeight_12) (zv_V ?_) (fun q => zx_thr x (fun z hz => (htab z hz).elim) q)
  refine z_new (pc := 15) x in_X12 tyX12 tyX12_ok q1821 q952 q148 (ci := 18) rfl (by decide) (by decide +kernel) dX1_meanHeight_15 fun v15 => ?_
  refine z_dup (pc := 18) x dX1_meanHeight_18 rfl ?_
  refine z_aload_n (pc := 19) x 1 dX1_meanHeight_19 rfl rfl ?_
  refine z_get (pc := 20) (fun _ _ h => zAsR_eq h) x in_X1 (ci := 16) rfl (k := 0) (by decide) q320 (fun _ h => h) dX1_meanHeight_20 fun v20 => ?_
  refine z_call (pc := 23) (z_canI (pc := 23) (ret := none) (As := [zP v20]) (st := [zP v15]) x (fun b => m_X12_init hl (some b) v20) q1822 rfl q992 q148 q993 n_X12_init ⟨by decide, by decide⟩ (Nat.le_of_ble_eq_true rfl) dX1_meanHeight_23) (zv_V ?_) (fun q => zx_thr x (fun z hz => (htab z hz).elim) q)
  refine z_call (pc := 26) (z_canV (pc := 26) (As := []) (st := []) x (ci := 18) rfl (fun b => m_X12_inRounds hl (some b)) q1823 q1009 (x.2.2.2.2.1 _ q1010) q148 q1011 n_X12_inRounds ⟨by decide, by decide⟩ (Nat.le_of_ble_eq_true rfl) dX1_meanHeight_26) (zv_R fun v26 => ?_) (fun q => zx_thr x (fun z hz => (htab z hz).elim) q)
  refine z_call (pc := 29) (z_canV (pc := 29) (As := []) (st := []) x (ci := 18) rfl (fun b => m_X12_sumOfTrue hl (some b)) q2129 q2130 (x.2.2.2.2.1 _ q2131) q148 q2132 n_X12_sumOfTrue ⟨by decide, by decide⟩ (Nat.le_of_ble_eq_true rfl) dX1_meanHeight_29) (zv_I fun v29 => ?_) (fun q => zx_thr x (fun z hz => (htab z hz).elim) q)
  refine z_i2d (pc := 32) x dX1_meanHeight_32 ?_
  refine z_iload_n (pc := 33) x 0 dX1_meanHeight_33 rfl rfl ?_
  refine z_i2d (pc := 34) x dX1_meanHeight_34 ?_
  refine z_ddiv (pc := 35) x dX1_meanHeight_35 fun v35 => ?_
  exact z_dret (pc := 36) x hret dX1_meanHeight_36
/-! X0_meanHeight -/
def s_X0_meanHeight_10 (E : zE) (b0 : Option Nat) : zM := zRet (some (.int (1 : Int32)))
theorem w_X0_meanHeight_10 (x : zCx p l R s m args meth c E D tA cX0_meanHeight 3 yX0_meanHeight.cls 76) (hl : l.stackTraces = false) (hret : meth.sig.returnType = (Option.some Jvm.ClassFile.FieldType.int)) (hnm : meth.name = yX0_meanHeight.name) (htab : c.exceptionTable.toList = tableOf [(0, 7, 10, 108)]) (b0 : Option Nat) : zW p l e R s m args below meth c E D tA 3 k0 (s_X0_meanHeight_10 E b0) [] 10 [zP b0] := by
  unfold s_X0_meanHeight_10
  refine z_astore_n (pc := 10) (lv' := [(2, zP b0)]) x dX0_meanHeight_10 rfl (Nat.le_of_ble_eq_true rfl) rfl ?_
  refine z_iconst (pc := 11) x (v := (1 : Int32)) dX0_meanHeight_11 rfl ?_
  exact z_iret (pc := 12) x hret dX0_meanHeight_12
def s_X0_meanHeight (E : zE) (a0 : Option Nat) (a1 : Option Nat) : zM := zC (zRv a0 [(16, fun b => s_X1_meanHeight E (some b))]) (fun q => zCat1 q [(9, s_X0_meanHeight_10 E (some q))]) (zKD (fun v3 => zSaD E 4 a1 (0 : Int32) v3 (zRet (some (.int (0 : Int32))))))
theorem m_X0_meanHeight {l : Launch} {E : zE} {D : va_G} {tA : Nat → ClassId} (hl : l.stackTraces = false) (a0 : Option Nat) (a1 : Option Nat) : zMet l E D tA yX0_meanHeight (wsW_ yX0_meanHeight cX0_meanHeight 3 (Option.some Jvm.ClassFile.FieldType.int) [(0, 7, 10, 108)]) 76 (s_X0_meanHeight E a0 a1) [zP a0, zP a1] := by
  refine z_metW hl (by decide +kernel) (by rw [zSl_len]; exact (Nat.le_of_ble_eq_true rfl)) fun p e R s m args below meth c k0 x hret hnm htab => ?_
  refine z_lv [(0, zP a0), (1, zP a1)] rfl ?_
  unfold s_X0_meanHeight
  refine z_aload_n (pc := 0) x 1 dX0_meanHeight_0 rfl rfl ?_
  refine z_iconst (pc := 1) x (v := (0 : Int32)) dX0_meanHeight_1 rfl ?_
  refine z_aload_n (pc := 2) x 0 dX0_meanHeight_2 rfl rfl ?_
  refine z_call (pc := 3) (z_canV (pc := 3) (As := []) (st := [zI (0 : Int32), zP a1]) x (ci := 16) rfl (fun b => m_X1_meanHeight hl (some b)) q2117 q2118 (x.2.2.2.2.1 _ q2119) q108 q2120 n_X1_meanHeight ⟨by decide, by decide⟩ (Nat.le_of_ble_eq_true rfl) dX0_meanHeight_3) (zv_D fun v3 => ?_) (fun q => zx_cat x [(9, s_X0_meanHeight_10 E (some q), ⟨0, 7, 10, 108⟩)] htab (List.forall_mem_cons.mpr ⟨⟨rfl, (show (108 : Nat) ≠ 0 by decide), q2103, z_sub [] rfl (w_X0_meanHeight_10 x hl hret hnm htab (some q))⟩, (fun _ hj => nomatch hj)⟩))
  refine z_dast (pc := 6) x (t := 4) rfl dX0_meanHeight_6 ?_
  refine z_goto (pc := 7) (tgt := 13) x dX0_meanHeight_7 rfl ?_
  refine z_iconst (pc := 13) x (v := (0 : Int32)) dX0_meanHeight_13 rfl ?_
  exact z_iret (pc := 14) x hret dX0_meanHeight_14
/-! X1_derivedShare -/
def s_X1_derivedShare (E : zE) (a0 : Option Nat) : zM := zGetR a0 16 0 (fun v1 => zC (zRv v1 [(26, fun b => s_X2_facts E (some b))]) zThr (zKR (fun v4 => zC (zRv v4 [(32, fun b => s_X4_count E (some b))]) zThr (zKI (fun v7 => zC (s_X1_requireSome E v7) zThr (zKV (zGetR a0 16 0 (fun v17 => zGetR v17 26 0 (fun v20 => zC (zRv v20 [(32, fun b => s_X4_count E (some b))]) zThr (zKI (fun v23 => zNn32 (FP.fdiv ((FP.i2f (v7 - v23))) ((FP.i2f v7))) (fun v30 => zRet (some (.float v30))))))))))))))
theorem m_X1_derivedShare {l : Launch} {E : zE} {D : va_G} {tA : Nat → ClassId} (hl : l.stackTraces = false) (a0 : Option Nat) : zMet l E D tA yX1_derivedShare (ws_ yX1_derivedShare cX1_derivedShare 2 (Option.some Jvm.ClassFile.FieldType.float)) 73 (s_X1_derivedShare E a0) [zP a0] := by
  refine z_met hl (by decide +kernel) (by rw [zSl_len]; exact (Nat.le_of_ble_eq_true rfl)) fun p e R s m args below meth c k0 x hret hnm htab => ?_
  refine z_lv [(0, zP a0)] rfl ?_
  unfold s_X1_derivedShare
  refine z_aload_n (pc := 0) x 0 dX1_derivedShare_0 rfl rfl ?_
  refine z_get (pc := 1) (fun _ _ h => zAsR_eq h) x in_X1 (ci := 16) rfl (k := 0) (by decide) q320 (fun _ h => h) dX1_derivedShare_1 fun v1 => ?_
  refine z_call (pc := 4) (z_canV (pc := 4) (As := []) (st := []) x (ci := 26) rfl (fun b => m_X2_facts hl (some b)) q368 q369 (x.2.2.2.2.1 _ q370) q109 q371 n_X2_facts ⟨by decide, by decide⟩ (Nat.le_of_ble_eq_true rfl) dX1_derivedShare_4) (zv_R fun v4 => ?_) (fun q => zx_thr x (fun z hz => (htab z hz).elim) q)
  refine z_call (pc := 7) (z_canV (pc := 7) (As := []) (st := []) x (ci := 32) rfl (fun b => m_X4_count hl (some b)) q350 q351 (x.2.2.2.2.1 _ q352) q114 q353 n_X4_count ⟨by decide, by decide⟩ (Nat.le_of_ble_eq_true rfl) dX1_derivedShare_7) (zv_I fun v7 => ?_) (fun q => zx_thr x (fun z hz => (htab z hz).elim) q)
  refine z_istore_n (pc := 10) (lv' := [(1, zI v7), (0, zP a0)]) x dX1_derivedShare_10 rfl (Nat.le_of_ble_eq_true rfl) rfl ?_
  refine z_iload_n (pc := 11) x 0 dX1_derivedShare_11 rfl rfl ?_
  refine z_call (pc := 12) (z_canS (pc := 12) (As := [zI v7]) (st := []) x (m_X1_requireSome hl v7) q2121 q2122 q108 q2123 n_X1_requireSome ⟨by decide, by decide⟩ (Nat.le_of_ble_eq_true rfl) dX1_derivedShare_12) (zv_V ?_) (fun q => zx_thr x (fun z hz => (htab z hz).elim) q)
  refine z_iload_n (pc := 15) x 0 dX1_derivedShare_15 rfl rfl ?_
  refine z_aload_n (pc := 16) x 1 dX1_derivedShare_16 rfl rfl ?_
  refine z_get (pc := 17) (fun _ _ h => zAsR_eq h) x in_X1 (ci := 16) rfl (k := 0) (by decide) q320 (fun _ h => h) dX1_derivedShare_17 fun v17 => ?_
  refine z_getN (pc := 20) (fun _ _ h => zAsR_eq h) x in_X2 (ci := 26) rfl (k := 0) (by decide) q251 (fun _ h => h) dX1_derivedShare_20 fun v20 => ?_
  refine z_call (pc := 23) (z_canV (pc := 23) (As := []) (st := [zI v7]) x (ci := 32) rfl (fun b => m_X4_count hl (some b)) q350 q351 (x.2.2.2.2.1 _ q352) q114 q353 n_X4_count ⟨by decide, by decide⟩ (Nat.le_of_ble_eq_true rfl) dX1_derivedShare_23) (zv_I fun v23 => ?_) (fun q => zx_thr x (fun z hz => (htab z hz).elim) q)
  refine z_isub (pc := 26) x dX1_derivedShare_26 ?_
  refine z_i2f (pc := 27) x dX1_derivedShare_27 ?_
  refine z_iload_n (pc := 28) x 0 dX1_derivedShare_28 rfl rfl ?_
  refine z_i2f (pc := 29) x dX1_derivedShare_29 ?_
  refine z_fdiv (pc := 30) x dX1_derivedShare_30 fun v30 => ?_
  exact z_fret (pc := 31) x hret dX1_derivedShare_31
/-! X0_derivedShare -/
def s_X0_derivedShare_11 (E : zE) (b0 : Option Nat) : zM := zRet (some (.int (1 : Int32)))
theorem w_X0_derivedShare_11 (x : zCx p l R s m args meth c E D tA cX0_derivedShare 3 yX0_derivedShare.cls 74) (hl : l.stackTraces = false) (hret : meth.sig.returnType = (Option.some Jvm.ClassFile.FieldType.int)) (hnm : meth.name = yX0_derivedShare.name) (htab : c.exceptionTable.toList = tableOf [(0, 8, 11, 108)]) (b0 : Option Nat) : zW p l e R s m args below meth c E D tA 3 k0 (s_X0_derivedShare_11 E b0) [] 11 [zP b0] := by
  unfold s_X0_derivedShare_11
  refine z_astore_n (pc := 11) (lv' := [(2, zP b0)]) x dX0_derivedShare_11 rfl (Nat.le_of_ble_eq_true rfl) rfl ?_
  refine z_iconst (pc := 12) x (v := (1 : Int32)) dX0_derivedShare_12 rfl ?_
  exact z_iret (pc := 13) x hret dX0_derivedShare_13
def s_X0_derivedShare (E : zE) (a0 : Option Nat) (a1 : Option Nat) : zM := zC (zRv a0 [(16, fun b => s_X1_derivedShare E (some b))]) (fun q => zCat1 q [(9, s_X0_derivedShare_11 E (some q))]) (zKF (fun v3 => zNn64 (FP.f2d v3) (fun v6 => zSaD E 4 a1 (0 : Int32) v6 (zRet (some (.int (0 : Int32)))))))
theorem m_X0_derivedShare {l : Launch} {E : zE} {D : va_G} {tA : Nat → ClassId} (hl : l.stackTraces = false) (a0 : Option Nat) (a1 : Option Nat) : zMet l E D tA yX0_derivedShare (wsW_ yX0_derivedShare cX0_derivedShare 3 (Option.some Jvm.ClassFile.FieldType.int) [(0, 8, 11, 108)]) 74 (s_X0_derivedShare E a0 a1) [zP a0, zP a1] := by
  refine z_metW hl (by decide +kernel) (by rw [zSl_len]; exact (Nat.le_of_ble_eq_true rfl)) fun p e R s m args below meth c k0 x hret hnm htab => ?_
  refine z_lv [(0, zP a0), (1, zP a1)] rfl ?_
  unfold s_X0_derivedShare
  refine z_aload_n (pc := 0) x 1 dX0_derivedShare_0 rfl rfl ?_
  refine z_iconst (pc := 1) x (v := (0 : Int32)) dX0_derivedShare_1 rfl ?_
  refine z_aload_n (pc := 2) x 0 dX0_derivedShare_2 rfl rfl ?_
  refine z_call (pc := 3) (z_canV (pc := 3) (As := []) (st := [zI (0 : Int32), zP a1]) x (ci := 16) rfl (fun b => m_X1_derivedShare hl (some b)) q2136 q2137 (x.2.2.2.2.1 _ q2138) q108 q2139 n_X1_derivedShare ⟨by decide, by decide⟩ (Nat.le_of_ble_eq_true rfl) dX0_derivedShare_3) (zv_F fun v3 => ?_) (fun q => zx_cat x [(9, s_X0_derivedShare_11 E (some q), ⟨0, 8, 11, 108⟩)] htab (List.forall_mem_cons.mpr ⟨⟨rfl, (show (108 : Nat) ≠ 0 by decide), q2103, z_sub [] rfl (w_X0_derivedShare_11 x hl hret hnm htab (some q))⟩, (fun _ hj => nomatch hj)⟩))
  refine z_f2d (pc := 6) x dX0_derivedShare_6 fun v6 => ?_
  refine z_dast (pc := 7) x (t := 4) rfl dX0_derivedShare_7 ?_
  refine z_goto (pc := 8) (tgt := 14) x dX0_derivedShare_8 rfl ?_
  refine z_iconst (pc := 14) x (v := (0 : Int32)) dX0_derivedShare_14 rfl ?_
  exact z_iret (pc := 15) x hret dX0_derivedShare_15
/-! J4_length -/
def s_J4_length (E : zE) (a0 : Option Nat) : zM := zGetI a0 14 3 (fun v1 => zRet (some (.int v1)))
theorem m_J4_length {l : Launch} {E : zE} {D : va_G} {tA : Nat → ClassId} (hl : l.stackTraces = false) (a0 : Option Nat) : zMet l E D tA yJ4_length (ws_ yJ4_length cJ4_length 1 (Option.some Jvm.ClassFile.FieldType.int)) 9 (s_J4_length E a0) [zP a0] := by
  refine z_met hl (by decide +kernel) (by rw [zSl_len]; exact (Nat.le_of_ble_eq_true rfl)) fun p e R s m args below meth c k0 x hret hnm htab => ?_
  refine z_lv [(0, zP a0)] rfl ?_
  unfold s_J4_length
  refine z_aload_n (pc := 0) x 0 dJ4_length_0 rfl rfl ?_
  refine z_get (pc := 1) (fun _ _ h => zAsI_eq h) x in_J5 (ci := 14) rfl (k := 3) (by decide) q308 (fun _ h => h) dJ4_length_1 fun v1 => ?_
  exact z_iret (pc := 4) x hret dJ4_length_4
/-! J5_length -/
def s_J5_length (E : zE) (a0 : Option Nat) : zM := zC (zRv a0 [(14, fun b => s_J4_length E (some b))]) zThr (zKI (fun v1 => zRet (some (.int v1))))
theorem m_J5_length {l : Launch} {E : zE} {D : va_G} {tA : Nat → ClassId} (hl : l.stackTraces = false) (a0 : Option Nat) : zMet l E D tA yJ5_length (ws_ yJ5_length cJ5_length 1 (Option.some Jvm.ClassFile.FieldType.int)) 10 (s_J5_length E a0) [zP a0] := by
  refine z_met hl (by decide +kernel) (by rw [zSl_len]; exact (Nat.le_of_ble_eq_true rfl)) fun p e R s m args below meth c k0 x hret hnm htab => ?_
  refine z_lv [(0, zP a0)] rfl ?_
  unfold s_J5_length
  refine z_aload_n (pc := 0) x 0 dJ5_length_0 rfl rfl ?_
  refine z_call (pc := 1) (z_canSU (pc := 1) (As := []) (st := []) x (ci := 14) rfl (fun b => m_J4_length hl (some b)) q1217 q3349 q317 (by decide) q1218 q117 q1219 n_J4_length ⟨by decide, by decide⟩ (Nat.le_of_ble_eq_true rfl) dJ5_length_1) (zv_I fun v1 => ?_) (fun q => zx_thr x (fun z hz => (htab z hz).elim) q)
  exact z_iret (pc := 4) x hret dJ5_length_4
/-! J4_newCapacity -/
def s_J4_newCapacity (E : zE) (a0 : Option Nat) (a1 : Int32) : zM := zGetR a0 14 0 (fun v1 => zLen v1 (fun v4 => zGetI a0 14 1 (fun v8 => zGetI a0 14 1 (fun v24 => zC (s_J15_newLength E v4 ((a1 <<< (v8 &&& 31)) - v4) (v4 + ((2 : Int32) <<< (v24 &&& 31)))) zThr (zKI (fun v29 => if v29 = (2147483647 : Int32) then zFail else (zGetI a0 14 1 (fun v54 => zRet (some (.int (v29 >>> (v54 &&& 31))))))))))))
theorem m_J4_newCapacity {l : Launch} {E : zE} {D : va_G} {tA : Nat → ClassId} (hl : l.stackTraces = false) (a0 : Option Nat) (a1 : Int32) : zMet l E D tA yJ4_newCapacity (ws_ yJ4_newCapacity cJ4_newCapacity 6 (Option.some Jvm.ClassFile.FieldType.int)) 10 (s_J4_newCapacity E a0 a1) [zP a0, zI a1] := by
  refine z_met hl (by decide +kernel) (by rw [zSl_len]; exact (Nat.le_of_ble_eq_true rfl)) fun p e R s m args below meth c k0 x hret hnm htab => ?_
  refine z_lv [(0, zP a0), (1, zI a1)] rfl ?_
  unfold s_J4_newCapacity
  refine z_aload_n (pc := 0) x 0 dJ4_newCapacity_0 rfl rfl ?_
  refine z_get (pc := 1) (fun _ _ h => zAsR_eq h) x in_J5 (ci := 14) rfl (k := 0) (by decide) q304 (fun _ h => h) dJ4_newCapacity_1 fun v1 => ?_
  refine z_len (pc := 4) x dJ4_newCapacity_4 fun v4 => ?_
  refine z_istore_n (pc := 5) (lv' := [(2, zI v4), (0, zP a0), (1, zI a1)]) x dJ4_newCapacity_5 rfl (Nat.le_of_ble_eq_true rfl) rfl ?_
  refine z_iload_n (pc := 6) x 2 dJ4_newCapacity_6 rfl rfl ?_
  refine z_aload_n (pc := 7) x 1 dJ4_newCapacity_7 rfl rfl ?_
  refine z_get (pc := 8) (fun _ _ h => zAsI_eq h) x in_J5 (ci := 14) rfl (k := 1) (by decide) q305 (fun _ h => h) dJ4_newCapacity_8 fun v8 => ?_
  refine z_ishl (pc := 11) x dJ4_newCapacity_11 ?_
  refine z_istore_n (pc := 12) (lv' := [(3, zI (a1 <<< (v8 &&& 31))), (2, zI v4), (0, zP a0), (1, zI a1)]) x dJ4_newCapacity_12 rfl (Nat.le_of_ble_eq_true rfl) rfl ?_
  refine z_iload_n (pc := 13) x 0 dJ4_newCapacity_13 rfl rfl ?_
  refine z_iload_n (pc := 14) x 1 dJ4_newCapacity_14 rfl rfl ?_
  refine z_isub (pc := 15) x dJ4_newCapacity_15 ?_
  refine z_istore (pc := 16) (lv' := [(4, zI ((a1 <<< (v8 &&& 31)) - v4)), (3, zI (a1 <<< (v8 &&& 31))), (2, zI v4), (0, zP a0), (1, zI a1)]) x dJ4_newCapacity_16 (Nat.le_of_ble_eq_true rfl) rfl ?_
  refine z_iload_n (pc := 18) x 2 dJ4_newCapacity_18 rfl rfl ?_
  refine z_iload (pc := 19) x 0 dJ4_newCapacity_19 rfl ?_
  refine z_iload_n (pc := 21) x 2 dJ4_newCapacity_21 rfl rfl ?_
  refine z_iconst (pc := 22) x (v := (2 : Int32)) dJ4_newCapacity_22 rfl ?_
  refine z_aload_n (pc := 23) x 3 dJ4_newCapacity_23 rfl rfl ?_
  refine z_get (pc := 24) (fun _ _ h => zAsI_eq h) x in_J5 (ci := 14) rfl (k := 1) (by decide) q305 (fun _ h => h) dJ4_newCapacity_24 fun v24 => ?_
  refine z_ishl (pc := 27) x dJ4_newCapacity_27 ?_
  refine z_iadd (pc := 28) x dJ4_newCapacity_28 ?_
  refine z_call (pc := 29) (z_canS (pc := 29) (As := [zI v4, zI ((a1 <<< (v8 &&& 31)) - v4), zI (v4 + ((2 : Int32) <<< (v24 &&& 31)))]) (st := []) x (m_J15_newLength hl v4 ((a1 <<< (v8 &&& 31)) - v4) (v4 + ((2 : Int32) <<< (v24 &&& 31)))) q1241 q679 q129 q680 n_J15_newLength ⟨by decide, by decide⟩ (Nat.le_of_ble_eq_true rfl) dJ4_newCapacity_29) (zv_I fun v29 => ?_) (fun q => zx_thr x (fun z hz => (htab z hz).elim) q)
  refine z_istore (pc := 32) (lv' := [(5, zI v29), (4, zI ((a1 <<< (v8 &&& 31)) - v4)), (3, zI (a1 <<< (v8 &&& 31))), (2, zI v4), (0, zP a0), (1, zI a1)]) x dJ4_newCapacity_32 (Nat.le_of_ble_eq_true rfl) rfl ?_
  refine z_iload (pc := 34) x 0 dJ4_newCapacity_34 rfl ?_
  refine z_ldc (pc := 36) x (v := (2147483647 : Int32)) q1242 dJ4_newCapacity_36 ?_
  refine z_icmp_ne (pc := 38) (tgt := 51) x dJ4_newCapacity_38 rfl (fun _ => ?_) (fun _ => ?_)
  · exact z_fail
  · refine z_iload (pc := 51) x 0 dJ4_newCapacity_51 rfl ?_
    refine z_aload_n (pc := 53) x 4 dJ4_newCapacity_53 rfl rfl ?_
    refine z_get (pc := 54) (fun _ _ h => zAsI_eq h) x in_J5 (ci := 14) rfl (k := 1) (by decide) q305 (fun _ h => h) dJ4_newCapacity_54 fun v54 => ?_
    refine z_ishr (pc := 57) x dJ4_newCapacity_57 ?_
    exact z_iret (pc := 58) x hret dJ4_newCapacity_58
/-! J8_copyOf_3 -/
def s_J8_copyOf_3 (E : zE) (a0 : Option Nat) (a1 : Int32) : zM := zLen a0 (fun v2 => if a1 = v2 then (zCln 1 a0 (fun v7 => zCsA 1 v7 (zRet (some (va_rf v7))))) else (zNewA 1 zAr0 a1 (fun v15 => zLen a0 (fun v23 => zCpI E 1 a0 (0 : Int32) v15 (0 : Int32) (if a1 < v23 then a1 else v23) (zRet (some (va_rf v15)))))))
theorem m_J8_copyOf_3 {l : Launch} {E : zE} {D : va_G} {tA : Nat → ClassId} (hl : l.stackTraces = false) (a0 : Option Nat) (a1 : Int32) : zMet l E D tA yJ8_copyOf_3 (ws_ yJ8_copyOf_3 cJ8_copyOf_3 3 (Option.some (Jvm.ClassFile.FieldType.array Jvm.ClassFile.FieldType.byte))) 9 (s_J8_copyOf_3 E a0 a1) [zP a0, zI a1] := by
  refine z_met hl (by decide +kernel) (by rw [zSl_len]; exact (Nat.le_of_ble_eq_true rfl)) fun p e R s m args below meth c k0 x hret hnm htab => ?_
  refine z_lv [(0, zP a0), (1, zI a1)] rfl ?_
  unfold s_J8_copyOf_3
  refine z_iload_n (pc := 0) x 1 dJ8_copyOf_3_0 rfl rfl ?_
  refine z_aload_n (pc := 1) x 0 dJ8_copyOf_3_1 rfl rfl ?_
  refine z_len (pc := 2) x dJ8_copyOf_3_2 fun v2 => ?_
  refine z_icmp_ne (pc := 3) (tgt := 14) x dJ8_copyOf_3_3 rfl (fun _ => ?_) (fun _ => ?_)
  · refine z_aload_n (pc := 6) x 0 dJ8_copyOf_3_6 rfl rfl ?_
    refine z_cln (pc := 7) x (t := 1) (ad := "[B") rfl (fun _ hc => hc) q1246 q1247 q630 q631 q1248 q1249 (by omega) (zSum (k := 0) rfl (by omega)) dJ8_copyOf_3_7 fun v7 => ?_
    refine z_csA (pc := 10) x (t := 1) rfl (fun _ hc => hc) q1250 dJ8_copyOf_3_10 ?_
    exact z_aret (pc := 13) x hret (Or.inr ⟨_, rfl⟩) dJ8_copyOf_3_13
  · refine z_iload_n (pc := 14) x 1 dJ8_copyOf_3_14 rfl rfl ?_
    refine z_newA (pc := 15) x (ty := .byte) rfl (by decide) rfl q318 (fun _ _ => rfl) dJ8_copyOf_3_15 fun v15 => ?_
    refine z_astore_n (pc := 17) (lv' := [(2, zP v15), (0, zP a0), (1, zI a1)]) x dJ8_copyOf_3_17 rfl (Nat.le_of_ble_eq_true rfl) rfl ?_
    refine z_aload_n (pc := 18) x 1 dJ8_copyOf_3_18 rfl rfl ?_
    refine z_iconst (pc := 19) x (v := (0 : Int32)) dJ8_copyOf_3_19 rfl ?_
    refine z_aload_n (pc := 20) x 0 dJ8_copyOf_3_20 rfl rfl ?_
    refine z_iconst (pc := 21) x (v := (0 : Int32)) dJ8_copyOf_3_21 rfl ?_
    refine z_aload_n (pc := 22) x 1 dJ8_copyOf_3_22 rfl rfl ?_
    refine z_len (pc := 23) x dJ8_copyOf_3_23 fun v23 => ?_
    refine z_iload_n (pc := 24) x 2 dJ8_copyOf_3_24 rfl rfl ?_
    refine z_mmin (pc := 25) x q739 q613 q130 q614 (by omega) (zSum (k := 4) rfl (by omega)) dJ8_copyOf_3_25 ?_
    refine z_cpyI (pc := 28) x (t := 1) (ty := .byte) rfl rfl q740 q742 q741 q131 (by omega) (zSum (k := 0) rfl (by omega)) dJ8_copyOf_3_28 ?_
    refine z_aload_n (pc := 31) x 0 dJ8_copyOf_3_31 rfl rfl ?_
    exact z_aret (pc := 32) x hret (Or.inr ⟨_, rfl⟩) dJ8_copyOf_3_32
/-! J4_ensureCapacityInternal -/
def s_J4_ensureCapacityInternal (E : zE) (a0 : Option Nat) (a1 : Int32) : zM := zGetR a0 14 0 (fun v1 => zLen v1 (fun v4 => zGetI a0 14 1 (fun v6 => if (a1 - (v4 >>> (v6 &&& 31))) ≤ 0 then (zRet none) else (zGetR a0 14 0 (fun v19 => zC (zRv a0 [(14, fun b => s_J4_newCapacity E (some b) a1)]) zThr (zKI (fun v24 => zGetI a0 14 1 (fun v28 => zC (s_J8_copyOf_3 E v19 (v24 <<< (v28 &&& 31))) zThr (zKR (fun v32 => zSet E a0 14 0 (zVal (zP v32)) (zRet none)))))))))))
theorem m_J4_ensureCapacityInternal {l : Launch} {E : zE} {D : va_G} {tA : Nat → ClassId} (hl : l.stackTraces = false) (a0 : Option Nat) (a1 : Int32) : zMet l E D tA yJ4_ensureCapacityInternal (ws_ yJ4_ensureCapacityInternal cJ4_ensureCapacityInternal 3 (Option.none : Option Jvm.ClassFile.FieldType)) 11 (s_J4_ensureCapacityInternal E a0 a1) [zP a0, zI a1] := by
  refine z_met hl (by decide +kernel) (by rw [zSl_len]; exact (Nat.le_of_ble_eq_true rfl)) fun p e R s m args below meth c k0 x hret hnm htab => ?_
  refine z_lv [(0, zP a0), (1, zI a1)] rfl ?_
  unfold s_J4_ensureCapacityInternal
  refine z_aload_n (pc := 0) x 0 dJ4_ensureCapacityInternal_0 rfl rfl ?_
  refine z_get (pc := 1) (fun _ _ h => zAsR_eq h) x in_J5 (ci := 14) rfl (k := 0) (by decide) q304 (fun _ h => h) dJ4_ensureCapacityInternal_1 fun v1 => ?_
  refine z_len (pc := 4) x dJ4_ensureCapacityInternal_4 fun v4 => ?_
  refine z_aload_n (pc := 5) x 0 dJ4_ensureCapacityInternal_5 rfl rfl ?_
  refine z_get (pc := 6) (fun _ _ h => zAsI_eq h) x in_J5 (ci := 14) rfl (k := 1) (by decide) q305 (fun _ h => h) dJ4_ensureCapacityInternal_6 fun v6 => ?_
  refine z_ishr (pc := 9) x dJ4_ensureCapacityInternal_9 ?_
  refine z_istore_n (pc := 10) (lv' := [(2, zI (v4 >>> (v6 &&& 31))), (0, zP a0), (1, zI a1)]) x dJ4_ensureCapacityInternal_10 rfl (Nat.le_of_ble_eq_true rfl) rfl ?_
  refine z_iload_n (pc := 11) x 2 dJ4_ensureCapacityInternal_11 rfl rfl ?_
  refine z_iload_n (pc := 12) x 0 dJ4_ensureCapacityInternal_12 rfl rfl ?_
  refine z_isub (pc := 13) x dJ4_ensureCapacityInternal_13 ?_
  refine z_if_le (pc := 14) (tgt := 38) x dJ4_ensureCapacityInternal_14 rfl (fun _ => ?_) (fun _ => ?_)
  · exact z_vret (pc := 38) x hret dJ4_ensureCapacityInternal_38
  · refine z_aload_n (pc := 17) x 1 dJ4_ensureCapacityInternal_17 rfl rfl ?_
    refine z_aload_n (pc := 18) x 1 dJ4_ensureCapacityInternal_18 rfl rfl ?_
    refine z_get (pc := 19) (fun _ _ h => zAsR_eq h) x in_J5 (ci := 14) rfl (k := 0) (by decide) q304 (fun _ h => h) dJ4_ensureCapacityInternal_19 fun v19 => ?_
    refine z_aload_n (pc := 22) x 1 dJ4_ensureCapacityInternal_22 rfl rfl ?_
    refine z_iload_n (pc := 23) x 2 dJ4_ensureCapacityInternal_23 rfl rfl ?_
    refine z_call (pc := 24) (z_canV (pc := 24) (As := [zI a1]) (st := [zP v19, zP a0]) x (ci := 14) rfl (fun b => m_J4_newCapacity hl (some b) a1) q1237 q1239 (z_selP x (ci := 14) rfl (by decide) (zNi_sel (z := ⟨"java/lang/AbstractStringBuilder", "isLatin1", "()Z"⟩) x q1254) q1238 q1239) q117 q1240 n_J4_newCapacity ⟨by decide, by decide⟩ (Nat.le_of_ble_eq_true rfl) dJ4_ensureCapacityInternal_24) (zv_I fun v24 => ?_) (fun q => zx_thr x (fun z hz => (htab z hz).elim) q)
    refine z_aload_n (pc := 27) x 1 dJ4_ensureCapacityInternal_27 rfl rfl ?_
    refine z_get (pc := 28) (fun _ _ h => zAsI_eq h) x in_J5 (ci := 14) rfl (k := 1) (by decide) q305 (fun _ h => h) dJ4_ensureCapacityInternal_28 fun v28 => ?_
    refine z_ishl (pc := 31) x dJ4_ensureCapacityInternal_31 ?_
    refine z_call (pc := 32) (z_canS (pc := 32) (As := [zP v19, zI (v24 <<< (v28 &&& 31))]) (st := [zP a0]) x (m_J8_copyOf_3 hl v19 (v24 <<< (v28 &&& 31))) q1243 q1244 q122 q1245 n_J8_copyOf_3 ⟨by decide, by decide⟩ (Nat.le_of_ble_eq_true rfl) dJ4_ensureCapacityInternal_32) (zv_R fun v32 => ?_) (fun q => zx_thr x (fun z hz => (htab z hz).elim) q)
    refine z_set (pc := 35) (v := zP v32) x in_J5 tyJ5 tyJ5_ok nmJ5 (ci := 14) rfl (k := 0) (by decide) q304 (fun _ h => h) rfl (zfitR rfl _).1 (zfitR rfl _).2 dJ4_ensureCapacityInternal_35 ?_
    exact z_vret (pc := 38) x hret dJ4_ensureCapacityInternal_38
/-! J4_isLatin1 -/
def s_J4_isLatin1 (E : zE) (a0 : Option Nat) : zM := if (1 : Int32) = 0 then (zRetN .boolean (0 : Int32)) else (zGetI a0 14 1 (fun v7 => if v7 = 0 then (zRetN .boolean (1 : Int32)) else (zRetN .boolean (0 : Int32))))
theorem m_J4_isLatin1 {l : Launch} {E : zE} {D : va_G} {tA : Nat → ClassId} (hl : l.stackTraces = false) (a0 : Option Nat) : zMet l E D tA yJ4_isLatin1 (ws_ yJ4_isLatin1 cJ4_isLatin1 1 (Option.some Jvm.ClassFile.FieldType.boolean)) 9 (s_J4_isLatin1 E a0) [zP a0] := by
  refine z_met hl (by decide +kernel) (by rw [zSl_len]; exact (Nat.le_of_ble_eq_true rfl)) fun p e R s m args below meth c k0 x hret hnm htab => ?_
  refine z_lv [(0, zP a0)] rfl ?_
  unfold s_J4_isLatin1
  refine z_staI (pc := 0) x (v := (1 : Int32)) (by decide) q295 dJ4_isLatin1_0 ?_
  refine z_if_eq (pc := 3) (tgt := 17) x dJ4_isLatin1_3 rfl (fun _ => ?_) (fun _ => ?_)
  · refine z_iconst (pc := 17) x (v := (0 : Int32)) dJ4_isLatin1_17 rfl ?_
    exact z_zret (pc := 18) x hret dJ4_isLatin1_18
  · refine z_aload_n (pc := 6) x 0 dJ4_isLatin1_6 rfl rfl ?_
    refine z_get (pc := 7) (fun _ _ h => zAsI_eq h) x in_J5 (ci := 14) rfl (k := 1) (by decide) q305 (fun _ h => h) dJ4_isLatin1_7 fun v7 => ?_
    refine z_if_ne (pc := 10) (tgt := 17) x dJ4_isLatin1_10 rfl (fun _ => ?_) (fun _ => ?_)
    · refine z_iconst (pc := 13) x (v := (1 : Int32)) dJ4_isLatin1_13 rfl ?_
      refine z_goto (pc := 14) (tgt := 18) x dJ4_isLatin1_14 rfl ?_
      exact z_zret (pc := 18) x hret dJ4_isLatin1_18
    · refine z_iconst (pc := 17) x (v := (0 : Int32)) dJ4_isLatin1_17 rfl ?_
      exact z_zret (pc := 18) x hret dJ4_isLatin1_18
/-! J18_canEncode -/
def s_J18_canEncode (E : zE) (a0 : Int32) : zM := if (255 : Int32) < a0 then (zRetN .boolean (0 : Int32)) else (zRetN .boolean (1 : Int32))
theorem m_J18_canEncode {l : Launch} {E : zE} {D : va_G} {tA : Nat → ClassId} (hl : l.stackTraces = false) (a0 : Int32) : zMet l E D tA yJ18_canEncode (ws_ yJ18_canEncode cJ18_canEncode 1 (Option.some Jvm.ClassFile.FieldType.boolean)) 9 (s_J18_canEncode E a0) [zI a0] := by
  refine z_met hl (by decide +kernel) (by rw [zSl_len]; exact (Nat.le_of_ble_eq_true rfl)) fun p e R s m args below meth c k0 x hret hnm htab => ?_
  refine z_lv [(0, zI a0)] rfl ?_
  unfold s_J18_canEncode
  refine z_iload_n (pc := 0) x 0 dJ18_canEncode_0 rfl rfl ?_
  refine z_sipush (pc := 1) x (v := (255 : Int32)) dJ18_canEncode_1 rfl ?_
  refine z_icmp_gt (pc := 4) (tgt := 11) x dJ18_canEncode_4 rfl (fun _ => ?_) (fun _ => ?_)
  · refine z_iconst (pc := 11) x (v := (0 : Int32)) dJ18_canEncode_11 rfl ?_
    exact z_zret (pc := 12) x hret dJ18_canEncode_12
  · refine z_iconst (pc := 7) x (v := (1 : Int32)) dJ18_canEncode_7 rfl ?_
    refine z_goto (pc := 8) (tgt := 12) x dJ18_canEncode_8 rfl ?_
    exact z_zret (pc := 12) x hret dJ18_canEncode_12
/-! J7_newBytesLength -/
def s_J7_newBytesLength (E : zE) (a0 : Int32) : zM := if 0 ≤ a0 then (if a0 < (1073741823 : Int32) then (zRet (some (.int (a0 <<< ((1 : Int32) &&& 31))))) else zFail) else zFail
theorem m_J7_newBytesLength {l : Launch} {E : zE} {D : va_G} {tA : Nat → ClassId} (hl : l.stackTraces = false) (a0 : Int32) : zMet l E D tA yJ7_newBytesLength (ws_ yJ7_newBytesLength cJ7_newBytesLength 1 (Option.some Jvm.ClassFile.FieldType.int)) 9 (s_J7_newBytesLength E a0) [zI a0] := by
  refine z_met hl (by decide +kernel) (by rw [zSl_len]; exact (Nat.le_of_ble_eq_true rfl)) fun p e R s m args below meth c k0 x hret hnm htab => ?_
  refine z_lv [(0, zI a0)] rfl ?_
  unfold s_J7_newBytesLength
  refine z_iload_n (pc := 0) x 0 dJ7_newBytesLength_0 rfl rfl ?_
  refine z_if_ge (pc := 1) (tgt := 12) x dJ7_newBytesLength_1 rfl (fun _ => ?_) (fun _ => ?_)
  · refine z_iload_n (pc := 12) x 0 dJ7_newBytesLength_12 rfl rfl ?_
    refine z_ldc (pc := 13) x (v := (1073741823 : Int32)) q303 dJ7_newBytesLength_13 ?_
    refine z_icmp_lt (pc := 15) (tgt := 55) x dJ7_newBytesLength_15 rfl (fun _ => ?_) (fun _ => ?_)
    · refine z_iload_n (pc := 55) x 0 dJ7_newBytesLength_55 rfl rfl ?_
      refine z_iconst (pc := 56) x (v := (1 : Int32)) dJ7_newBytesLength_56 rfl ?_
      refine z_ishl (pc := 57) x dJ7_newBytesLength_57 ?_
      exact z_iret (pc := 58) x hret dJ7_newBytesLength_58
    · exact z_fail
  · exact z_fail
/-! J7_newBytesFor -/
def s_J7_newBytesFor (E : zE) (a0 : Int32) : zM := zC (s_J7_newBytesLength E a0) zThr (zKI (fun v1 => zNewA 1 zAr0 v1 (fun v4 => zRet (some (va_rf v4)))))
theorem m_J7_newBytesFor {l : Launch} {E : zE} {D : va_G} {tA : Nat → ClassId} (hl : l.stackTraces = false) (a0 : Int32) : zMet l E D tA yJ7_newBytesFor (ws_ yJ7_newBytesFor cJ7_newBytesFor 1 (Option.some (Jvm.ClassFile.FieldType.array Jvm.ClassFile.FieldType.byte))) 10 (s_J7_newBytesFor E a0) [zI a0] := by
  refine z_met hl (by decide +kernel) (by rw [zSl_len]; exact (Nat.le_of_ble_eq_true rfl)) fun p e R s m args below meth c k0 x hret hnm htab => ?_
  refine z_lv [(0, zI a0)] rfl ?_
  unfold s_J7_newBytesFor
  refine z_iload_n (pc := 0) x 0 dJ7_newBytesFor_0 rfl rfl ?_
  refine z_call (pc := 1) (z_canS (pc := 1) (As := [zI a0]) (st := []) x (m_J7_newBytesLength hl a0) q300 q301 q120 q302 n_J7_newBytesLength ⟨by decide, by decide⟩ (Nat.le_of_ble_eq_true rfl) dJ7_newBytesFor_1) (zv_I fun v1 => ?_) (fun q => zx_thr x (fun z hz => (htab z hz).elim) q)
  refine z_newA (pc := 4) x (ty := .byte) rfl (by decide) rfl q318 (fun _ _ => rfl) dJ7_newBytesFor_4 fun v4 => ?_
  exact z_aret (pc := 6) x hret (Or.inr ⟨_, rfl⟩) dJ7_newBytesFor_6
/-! J7_length -/
def s_J7_length (E : zE) (a0 : Option Nat) : zM := zLen a0 (fun v1 => zRet (some (.int (v1 >>> ((1 : Int32) &&& 31)))))
theorem m_J7_length {l : Launch} {E : zE} {D : va_G} {tA : Nat → ClassId} (hl : l.stackTraces = false) (a0 : Option Nat) : zMet l E D tA yJ7_length (ws_ yJ7_length cJ7_length 1 (Option.some Jvm.ClassFile.FieldType.int)) 9 (s_J7_length E a0) [zP a0] := by
  refine z_met hl (by decide +kernel) (by rw [zSl_len]; exact (Nat.le_of_ble_eq_true rfl)) fun p e R s m args below meth c k0 x hret hnm htab => ?_
  refine z_lv [(0, zP a0)] rfl ?_
  unfold s_J7_length
  refine z_aload_n (pc := 0) x 0 dJ7_length_0 rfl rfl ?_
  refine z_len (pc := 1) x dJ7_length_1 fun v1 => ?_
  refine z_iconst (pc := 2) x (v := (1 : Int32)) dJ7_length_2 rfl ?_
  refine z_ishr (pc := 3) x dJ7_length_3 ?_
  exact z_iret (pc := 4) x hret dJ7_length_4
/-! J17_checkFromIndexSize -/
def s_J17_checkFromIndexSize (E : zE) (a0 : Int32) (a1 : Int32) (a2 : Int32) (a3 : Option Nat) : zM := if ((a2 ||| a0) ||| a1) < 0 then zFail else (if a1 ≤ (a2 - a0) then (zRet (some (.int a0))) else zFail)
theorem m_J17_checkFromIndexSize {l : Launch} {E : zE} {D : va_G} {tA : Nat → ClassId} (hl : l.stackTraces = false) (a0 : Int32) (a1 : Int32) (a2 : Int32) (a3 : Option Nat) : zMet l E D tA yJ17_checkFromIndexSize (ws_ yJ17_checkFromIndexSize cJ17_checkFromIndexSize 4 (Option.some Jvm.ClassFile.FieldType.int)) 9 (s_J17_checkFromIndexSize E a0 a1 a2 a3) [zI a0, zI a1, zI a2, zP a3] := by
  refine z_met hl (by decide +kernel) (by rw [zSl_len]; exact (Nat.le_of_ble_eq_true rfl)) fun p e R s m args below meth c k0 x hret hnm htab => ?_
  refine z_lv [(0, zI a0), (1, zI a1), (2, zI a2), (3, zP a3)] rfl ?_
  unfold s_J17_checkFromIndexSize
  refine z_iload_n (pc := 0) x 2 dJ17_checkFromIndexSize_0 rfl rfl ?_
  refine z_iload_n (pc := 1) x 0 dJ17_checkFromIndexSize_1 rfl rfl ?_
  refine z_ior (pc := 2) x dJ17_checkFromIndexSize_2 ?_
  refine z_iload_n (pc := 3) x 1 dJ17_checkFromIndexSize_3 rfl rfl ?_
  refine z_ior (pc := 4) x dJ17_checkFromIndexSize_4 ?_
  refine z_if_lt (pc := 5) (tgt := 15) x dJ17_checkFromIndexSize_5 rfl (fun _ => ?_) (fun _ => ?_)
  · exact z_fail
  · refine z_iload_n (pc := 8) x 1 dJ17_checkFromIndexSize_8 rfl rfl ?_
    refine z_iload_n (pc := 9) x 2 dJ17_checkFromIndexSize_9 rfl rfl ?_
    refine z_iload_n (pc := 10) x 0 dJ17_checkFromIndexSize_10 rfl rfl ?_
    refine z_isub (pc := 11) x dJ17_checkFromIndexSize_11 ?_
    refine z_icmp_le (pc := 12) (tgt := 23) x dJ17_checkFromIndexSize_12 rfl (fun _ => ?_) (fun _ => ?_)
    · refine z_iload_n (pc := 23) x 0 dJ17_checkFromIndexSize_23 rfl rfl ?_
      exact z_iret (pc := 24) x hret dJ17_checkFromIndexSize_24
    · exact z_fail
/-! J6_checkBoundsOffCount -/
def s_J6_checkBoundsOffCount (E : zE) (a0 : Int32) (a1 : Int32) (a2 : Int32) : zM := zC (s_J17_checkFromIndexSize E a0 a1 a2 (zOpt E 8)) zThr (zKI (fun v6 => zRet (some (.int v6))))
theorem m_J6_checkBoundsOffCount {l : Launch} {E : zE} {D : va_G} {tA : Nat → ClassId} (hl : l.stackTraces = false) (a0 : Int32) (a1 : Int32) (a2 : Int32) : zMet l E D tA yJ6_checkBoundsOffCount (ws_ yJ6_checkBoundsOffCount cJ6_checkBoundsOffCount 3 (Option.some Jvm.ClassFile.FieldType.int)) 10 (s_J6_checkBoundsOffCount E a0 a1 a2) [zI a0, zI a1, zI a2] := by
  refine z_met hl (by decide +kernel) (by rw [zSl_len]; exact (Nat.le_of_ble_eq_true rfl)) fun p e R s m args below meth c k0 x hret hnm htab => ?_
  refine z_lv [(0, zI a0), (1, zI a1), (2, zI a2)] rfl ?_
  unfold s_J6_checkBoundsOffCount
  refine z_iload_n (pc := 0) x 0 dJ6_checkBoundsOffCount_0 rfl rfl ?_
  refine z_iload_n (pc := 1) x 1 dJ6_checkBoundsOffCount_1 rfl rfl ?_
  refine z_iload_n (pc := 2) x 2 dJ6_checkBoundsOffCount_2 rfl rfl ?_
  refine z_staQ (pc := 3) x (k := 8) (by decide) q1268 dJ6_checkBoundsOffCount_3 ?_
  refine z_call (pc := 6) (z_canS (pc := 6) (As := [zI a0, zI a1, zI a2, zP (zOpt E 8)]) (st := []) x (m_J17_checkFromIndexSize hl a0 a1 a2 (zOpt E 8)) q1316 q1317 q132 q1318 n_J17_checkFromIndexSize ⟨by decide, by decide⟩ (Nat.le_of_ble_eq_true rfl) dJ6_checkBoundsOffCount_6) (zv_I fun v6 => ?_) (fun q => zx_thr x (fun z hz => (htab z hz).elim) q)
  exact z_iret (pc := 9) x hret dJ6_checkBoundsOffCount_9
/-! J7_checkBoundsOffCount -/
def s_J7_checkBoundsOffCount (E : zE) (a0 : Int32) (a1 : Int32) (a2 : Option Nat) : zM := zC (s_J7_length E a2) zThr (zKI (fun v3 => zC (s_J6_checkBoundsOffCount E a0 a1 v3) zThr (zKI (fun v6 => zRet none))))
theorem m_J7_checkBoundsOffCount {l : Launch} {E : zE} {D : va_G} {tA : Nat → ClassId} (hl : l.stackTraces = false) (a0 : Int32) (a1 : Int32) (a2 : Option Nat) : zMet l E D tA yJ7_checkBoundsOffCount (ws_ yJ7_checkBoundsOffCount cJ7_checkBoundsOffCount 3 (Option.none : Option Jvm.ClassFile.FieldType)) 11 (s_J7_checkBoundsOffCount E a0 a1 a2) [zI a0, zI a1, zP a2] := by
  refine z_met hl (by decide +kernel) (by rw [zSl_len]; exact (Nat.le_of_ble_eq_true rfl)) fun p e R s m args below meth c k0 x hret hnm htab => ?_
  refine z_lv [(0, zI a0), (1, zI a1), (2, zP a2)] rfl ?_
  unfold s_J7_checkBoundsOffCount
  refine z_iload_n (pc := 0) x 0 dJ7_checkBoundsOffCount_0 rfl rfl ?_
  refine z_iload_n (pc := 1) x 1 dJ7_checkBoundsOffCount_1 rfl rfl ?_
  refine z_aload_n (pc := 2) x 2 dJ7_checkBoundsOffCount_2 rfl rfl ?_
  refine z_call (pc := 3) (z_canS (pc := 3) (As := [zP a2]) (st := [zI a1, zI a0]) x (m_J7_length hl a2) q1262 q1263 q120 q1264 n_J7_length ⟨by decide, by decide⟩ (Nat.le_of_ble_eq_true rfl) dJ7_checkBoundsOffCount_3) (zv_I fun v3 => ?_) (fun q => zx_thr x (fun z hz => (htab z hz).elim) q)
  refine z_call (pc := 6) (z_canS (pc := 6) (As := [zI a0, zI a1, zI v3]) (st := []) x (m_J6_checkBoundsOffCount hl a0 a1 v3) q1313 q1314 q119 q1315 n_J6_checkBoundsOffCount ⟨by decide, by decide⟩ (Nat.le_of_ble_eq_true rfl) dJ7_checkBoundsOffCount_6) (zv_I fun v6 => ?_) (fun q => zx_thr x (fun z hz => (htab z hz).elim) q)
  refine z_pop (pc := 9) x dJ7_checkBoundsOffCount_9 rfl ?_
  exact z_vret (pc := 10) x hret dJ7_checkBoundsOffCount_10
/-! J7_putChar -/
def s_J7_putChar_28 (E : zE) (a0 : Option Nat) (a1 : Int32) (a2 : Int32) : zM := zSaI E 1 a0 (a1 <<< ((1 : Int32) &&& 31)) (vp_nar .byte (((a2 >>> ((0 : Int32) &&& 31))).toInt8.toInt32)) (zSaI E 1 a0 ((a1 <<< ((1 : Int32) &&& 31)) + (1 : Int32)) (vp_nar .byte (((a2 >>> ((8 : Int32) &&& 31))).toInt8.toInt32)) (zRet none))
theorem w_J7_putChar_28 (x : zCx p l R s m args meth c E D tA cJ7_putChar 3 yJ7_putChar.cls 10) (hl : l.stackTraces = false) (hret : meth.sig.returnType = (Option.none : Option Jvm.ClassFile.FieldType)) (hnm : meth.name = yJ7_putChar.name) (htab : ∀ z ∈ c.exceptionTable.toList, False) (a0 : Option Nat) (a1 : Int32) (a2 : Int32) : zW p l e R s m args below meth c E D tA 3 k0 (s_J7_putChar_28 E a0 a1 a2) [(0, zP a0), (1, zI a1), (2, zI a2)] 28 [] := by
  unfold s_J7_putChar_28
  refine z_iload_n (pc := 28) x 1 dJ7_putChar_28 rfl rfl ?_
  refine z_iconst (pc := 29) x (v := (1 : Int32)) dJ7_putChar_29 rfl ?_
  refine z_ishl (pc := 30) x dJ7_putChar_30 ?_
  refine z_istore_n (pc := 31) (lv' := [(1, zI (a1 <<< ((1 : Int32) &&& 31))), (0, zP a0), (2, zI a2)]) x dJ7_putChar_31 rfl (Nat.le_of_ble_eq_true rfl) rfl ?_
  refine z_aload_n (pc := 32) x 1 dJ7_putChar_32 rfl rfl ?_
  refine z_iload_n (pc := 33) x 0 dJ7_putChar_33 rfl rfl ?_
  refine z_iinc (pc := 34) (lv' := [(1, zI ((a1 <<< ((1 : Int32) &&& 31)) + (1 : Int32))), (0, zP a0), (2, zI a2)]) x (v2 := ((a1 <<< ((1 : Int32) &&& 31)) + (1 : Int32))) 0 dJ7_putChar_34 rfl rfl (Nat.le_of_ble_eq_true rfl) rfl ?_
  refine z_iload_n (pc := 37) x 2 dJ7_putChar_37 rfl rfl ?_
  refine z_staI (pc := 38) x (v := (0 : Int32)) (by decide) q1278 dJ7_putChar_38 ?_
  refine z_ishr (pc := 41) x dJ7_putChar_41 ?_
  refine z_i2b (pc := 42) x dJ7_putChar_42 ?_
  refine z_bast (pc := 43) x (t := 1) rfl dJ7_putChar_43 ?_
  refine z_aload_n (pc := 44) x 1 dJ7_putChar_44 rfl rfl ?_
  refine z_iload_n (pc := 45) x 0 dJ7_putChar_45 rfl rfl ?_
  refine z_iload_n (pc := 46) x 2 dJ7_putChar_46 rfl rfl ?_
  refine z_staI (pc := 47) x (v := (8 : Int32)) (by decide) q1280 dJ7_putChar_47 ?_
  refine z_ishr (pc := 50) x dJ7_putChar_50 ?_
  refine z_i2b (pc := 51) x dJ7_putChar_51 ?_
  refine z_bast (pc := 52) x (t := 1) rfl dJ7_putChar_52 ?_
  exact z_vret (pc := 53) x hret dJ7_putChar_53
def s_J7_putChar (E : zE) (a0 : Option Nat) (a1 : Int32) (a2 : Int32) : zM := if (1 : Int32) = 0 then (if a1 < 0 then zFail else (zC (s_J7_length E a0) zThr (zKI (fun v12 => if a1 < v12 then (s_J7_putChar_28 E a0 a1 a2) else zFail)))) else (s_J7_putChar_28 E a0 a1 a2)
theorem m_J7_putChar {l : Launch} {E : zE} {D : va_G} {tA : Nat → ClassId} (hl : l.stackTraces = false) (a0 : Option Nat) (a1 : Int32) (a2 : Int32) : zMet l E D tA yJ7_putChar (ws_ yJ7_putChar cJ7_putChar 3 (Option.none : Option Jvm.ClassFile.FieldType)) 10 (s_J7_putChar E a0 a1 a2) [zP a0, zI a1, zI a2] := by
  refine z_met hl (by decide +kernel) (by rw [zSl_len]; exact (Nat.le_of_ble_eq_true rfl)) fun p e R s m args below meth c k0 x hret hnm htab => ?_
  refine z_lv [(0, zP a0), (1, zI a1), (2, zI a2)] rfl ?_
  unfold s_J7_putChar
  refine z_staI (pc := 0) x (v := (1 : Int32)) (by decide) q1276 dJ7_putChar_0 ?_
  refine z_if_ne (pc := 3) (tgt := 28) x dJ7_putChar_3 rfl (fun _ => ?_) (fun _ => ?_)
  · refine z_iload_n (pc := 6) x 1 dJ7_putChar_6 rfl rfl ?_
    refine z_if_lt (pc := 7) (tgt := 18) x dJ7_putChar_7 rfl (fun _ => ?_) (fun _ => ?_)
    · exact z_fail
    · refine z_iload_n (pc := 10) x 1 dJ7_putChar_10 rfl rfl ?_
      refine z_aload_n (pc := 11) x 0 dJ7_putChar_11 rfl rfl ?_
      refine z_call (pc := 12) (z_canS (pc := 12) (As := [zP a0]) (st := [zI a1]) x (m_J7_length hl a0) q1262 q1263 q120 q1264 n_J7_length ⟨by decide, by decide⟩ (Nat.le_of_ble_eq_true rfl) dJ7_putChar_12) (zv_I fun v12 => ?_) (fun q => zx_thr x (fun z hz => (htab z hz).elim) q)
      refine z_icmp_lt (pc := 15) (tgt := 28) x dJ7_putChar_15 rfl (fun _ => ?_) (fun _ => ?_)
      · exact z_sub [0, 1, 2] rfl (w_J7_putChar_28 x hl hret hnm htab a0 a1 a2)
      · exact z_fail
  · exact z_sub [0, 1, 2] rfl (w_J7_putChar_28 x hl hret hnm htab a0 a1 a2)
/-! J7_inflate -/
def s_J7_inflate_10 (E : zE) : Nat → Option Nat → Int32 → Option Nat → Int32 → Int32 → Int32 → zM
  | 0, _, _, _, _, _, _ => zFail
  | n + 1, a0, a1, a2, a3, a4, a5 => if a4 ≤ a5 then (zRet none) else (zGaI 1 a0 a1 (fun v27 => zC (s_J7_putChar E a2 a3 (v27 &&& (255 : Int32))) zThr (zKV ((s_J7_inflate_10 E n) a0 (a1 + (1 : Int32)) a2 (a3 + (1 : Int32)) a4 (a5 + (1 : Int32))))))
theorem w_J7_inflate_10 (x : zCx p l R s m args meth c E D tA cJ7_inflate 6 yJ7_inflate.cls 12) (hl : l.stackTraces = false) (hret : meth.sig.returnType = (Option.none : Option Jvm.ClassFile.FieldType)) (hnm : meth.name = yJ7_inflate.name) (htab : ∀ z ∈ c.exceptionTable.toList, False) : ∀ (n : Nat) (a0 : Option Nat) (a1 : Int32) (a2 : Option Nat) (a3 : Int32) (a4 : Int32) (a5 : Int32), zW p l e R s m args below meth c E D tA 6 k0 (s_J7_inflate_10 E n a0 a1 a2 a3 a4 a5) [(0, zP a0), (1, zI a1), (2, zP a2), (3, zI a3), (4, zI a4), (5, zI a5)] 10 [] := by
  intro n
  induction n with
  | zero => intro a0 a1 a2 a3 a4 a5; exact z_fail
  | succ n h10 =>
    intro a0 a1 a2 a3 a4 a5
    rw [s_J7_inflate_10]
    refine z_iload (pc := 10) x 5 dJ7_inflate_10 rfl ?_
    refine z_iload (pc := 12) x 4 dJ7_inflate_12 rfl ?_
    refine z_icmp_ge (pc := 14) (tgt := 41) x dJ7_inflate_14 rfl (fun _ => ?_) (fun _ => ?_)
    · exact z_vret (pc := 41) x hret dJ7_inflate_41
    · refine z_aload_n (pc := 17) x 2 dJ7_inflate_17 rfl rfl ?_
      refine z_iload_n (pc := 18) x 3 dJ7_inflate_18 rfl rfl ?_
      refine z_iinc (pc := 19) (lv' := [(3, zI (a3 + (1 : Int32))), (0, zP a0), (1, zI a1), (2, zP a2), (4, zI a4), (5, zI a5)]) x (v2 := (a3 + (1 : Int32))) 3 dJ7_inflate_19 rfl rfl (Nat.le_of_ble_eq_true rfl) rfl ?_
      refine z_aload_n (pc := 22) x 1 dJ7_inflate_22 rfl rfl ?_
      refine z_iload_n (pc := 23) x 2 dJ7_inflate_23 rfl rfl ?_
      refine z_iinc (pc := 24) (lv' := [(1, zI (a1 + (1 : Int32))), (3, zI (a3 + (1 : Int32))), (0, zP a0), (2, zP a2), (4, zI a4), (5, zI a5)]) x (v2 := (a1 + (1 : Int32))) 2 dJ7_inflate_24 rfl rfl (Nat.le_of_ble_eq_true rfl) rfl ?_
      refine z_bald (pc := 27) x (t := 1) rfl dJ7_inflate_27 fun v27 => ?_
      refine z_sipush (pc := 28) x (v := (255 : Int32)) dJ7_inflate_28 rfl ?_
      refine z_iand (pc := 31) x dJ7_inflate_31 ?_
      refine z_call (pc := 32) (z_canS (pc := 32) (As := [zP a2, zI a3, zI (v27 &&& (255 : Int32))]) (st := []) x (m_J7_putChar hl a2 a3 (v27 &&& (255 : Int32))) q1273 q1274 q120 q1275 n_J7_putChar ⟨by decide, by decide⟩ (Nat.le_of_ble_eq_true rfl) dJ7_inflate_32) (zv_V ?_) (fun q => zx_thr x (fun z hz => (htab z hz).elim) q)
      refine z_iinc (pc := 35) (lv' := [(5, zI (a5 + (1 : Int32))), (1, zI (a1 + (1 : Int32))), (3, zI (a3 + (1 : Int32))), (0, zP a0), (2, zP a2), (4, zI a4)]) x (v2 := (a5 + (1 : Int32))) 5 dJ7_inflate_35 rfl rfl (Nat.le_of_ble_eq_true rfl) rfl ?_
      refine z_goto (pc := 38) (tgt := 10) x dJ7_inflate_38 rfl ?_
      exact z_sub [3, 1, 4, 2, 5, 0] rfl (h10 a0 (a1 + (1 : Int32)) a2 (a3 + (1 : Int32)) a4 (a5 + (1 : Int32)))
def s_J7_inflate (E : zE) (a0 : Option Nat) (a1 : Int32) (a2 : Option Nat) (a3 : Int32) (a4 : Int32) : zM := zC (s_J7_checkBoundsOffCount E a3 a4 a2) zThr (zKV (s_J7_inflate_10 E zN a0 a1 a2 a3 a4 (0 : Int32)))
theorem m_J7_inflate {l : Launch} {E : zE} {D : va_G} {tA : Nat → ClassId} (hl : l.stackTraces = false) (a0 : Option Nat) (a1 : Int32) (a2 : Option Nat) (a3 : Int32) (a4 : Int32) : zMet l E D tA yJ7_inflate (ws_ yJ7_inflate cJ7_inflate 6 (Option.none : Option Jvm.ClassFile.FieldType)) 12 (s_J7_inflate E a0 a1 a2 a3 a4) [zP a0, zI a1, zP a2, zI a3, zI a4] := by
  refine z_met hl (by decide +kernel) (by rw [zSl_len]; exact (Nat.le_of_ble_eq_true rfl)) fun p e R s m args below meth c k0 x hret hnm htab => ?_
  refine z_lv [(0, zP a0), (1, zI a1), (2, zP a2), (3, zI a3), (4, zI a4)] rfl ?_
  unfold s_J7_inflate
  refine z_iload_n (pc := 0) x 3 dJ7_inflate_0 rfl rfl ?_
  refine z_iload (pc := 1) x 4 dJ7_inflate_1 rfl ?_
  refine z_aload_n (pc := 3) x 2 dJ7_inflate_3 rfl rfl ?_
  refine z_call (pc := 4) (z_canS (pc := 4) (As := [zI a3, zI a4, zP a2]) (st := []) x (m_J7_checkBoundsOffCount hl a3 a4 a2) q1310 q1311 q120 q1312 n_J7_checkBoundsOffCount ⟨by decide, by decide⟩ (Nat.le_of_ble_eq_true rfl) dJ7_inflate_4) (zv_V ?_) (fun q => zx_thr x (fun z hz => (htab z hz).elim) q)
  refine z_iconst (pc := 7) x (v := (0 : Int32)) dJ7_inflate_7 rfl ?_
  refine z_istore (pc := 8) (lv' := [(5, zI (0 : Int32)), (0, zP a0), (1, zI a1), (2, zP a2), (3, zI a3), (4, zI a4)]) x dJ7_inflate_8 (Nat.le_of_ble_eq_true rfl) rfl ?_
  exact z_sub [1, 2, 3, 4, 5, 0] rfl (w_J7_inflate_10 x hl hret hnm htab zN a0 a1 a2 a3 a4 (0 : Int32))
/-! J18_inflate -/
def s_J18_inflate (E : zE) (a0 : Option Nat) (a1 : Int32) (a2 : Option Nat) (a3 : Int32) (a4 : Int32) : zM := zC (s_J7_inflate E a0 a1 a2 a3 a4) zThr (zKV (zRet none))
theorem m_J18_inflate {l : Launch} {E : zE} {D : va_G} {tA : Nat → ClassId} (hl : l.stackTraces = false) (a0 : Option Nat) (a1 : Int32) (a2 : Option Nat) (a3 : Int32) (a4 : Int32) : zMet l E D tA yJ18_inflate (ws_ yJ18_inflate cJ18_inflate 5 (Option.none : Option Jvm.ClassFile.FieldType)) 13 (s_J18_inflate E a0 a1 a2 a3 a4) [zP a0, zI a1, zP a2, zI a3, zI a4] := by
  refine z_met hl (by decide +kernel) (by rw [zSl_len]; exact (Nat.le_of_ble_eq_true rfl)) fun p e R s m args below meth c k0 x hret hnm htab => ?_
  refine z_lv [(0, zP a0), (1, zI a1), (2, zP a2), (3, zI a3), (4, zI a4)] rfl ?_
  unfold s_J18_inflate
  refine z_aload_n (pc := 0) x 0 dJ18_inflate_0 rfl rfl ?_
  refine z_iload_n (pc := 1) x 1 dJ18_inflate_1 rfl rfl ?_
  refine z_aload_n (pc := 2) x 2 dJ18_inflate_2 rfl rfl ?_
  refine z_iload_n (pc := 3) x 3 dJ18_inflate_3 rfl rfl ?_
  refine z_iload (pc := 4) x 4 dJ18_inflate_4 rfl ?_
  refine z_call (pc := 6) (z_canS (pc := 6) (As := [zP a0, zI a1, zP a2, zI a3, zI a4]) (st := []) x (m_J7_inflate hl a0 a1 a2 a3 a4) q1307 q1308 q120 q1309 n_J7_inflate ⟨by decide, by decide⟩ (Nat.le_of_ble_eq_true rfl) dJ18_inflate_6) (zv_V ?_) (fun q => zx_thr x (fun z hz => (htab z hz).elim) q)
  exact z_vret (pc := 9) x hret dJ18_inflate_9
/-! J4_inflate -/
def s_J4_inflate (E : zE) (a0 : Option Nat) : zM := zC (zRv a0 [(14, fun b => s_J4_isLatin1 E (some b))]) zThr (zKI (fun v1 => if v1 = 0 then (zRet none) else (zGetR a0 14 0 (fun v9 => zLen v9 (fun v12 => zC (s_J7_newBytesFor E v12) zThr (zKR (fun v13 => zGetR a0 14 0 (fun v18 => zGetI a0 14 3 (fun v25 => zC (s_J18_inflate E v18 (0 : Int32) v13 (0 : Int32) v25) zThr (zKV (zSet E a0 14 0 (zVal (zP v13)) (zSetN E .byte a0 14 1 (1 : Int32) (zRet none)))))))))))))
theorem m_J4_inflate {l : Launch} {E : zE} {D : va_G} {tA : Nat → ClassId} (hl : l.stackTraces = false) (a0 : Option Nat) : zMet l E D tA yJ4_inflate (ws_ yJ4_inflate cJ4_inflate 2 (Option.none : Option Jvm.ClassFile.FieldType)) 14 (s_J4_inflate E a0) [zP a0] := by
  refine z_met hl (by decide +kernel) (by rw [zSl_len]; exact (Nat.le_of_ble_eq_true rfl)) fun p e R s m args below meth c k0 x hret hnm htab => ?_
  refine z_lv [(0, zP a0)] rfl ?_
  unfold s_J4_inflate
  refine z_aload_n (pc := 0) x 0 dJ4_inflate_0 rfl rfl ?_
  refine z_call (pc := 1) (z_canV (pc := 1) (As := []) (st := []) x (ci := 14) rfl (fun b => m_J4_isLatin1 hl (some b)) q1251 q1252 (x.2.2.2.2.1 _ q1254) q117 q1255 n_J4_isLatin1 ⟨by decide, by decide⟩ (Nat.le_of_ble_eq_true rfl) dJ4_inflate_1) (zv_I fun v1 => ?_) (fun q => zx_thr x (fun z hz => (htab z hz).elim) q)
  refine z_if_ne (pc := 4) (tgt := 8) x dJ4_inflate_4 rfl (fun _ => ?_) (fun _ => ?_)
  · exact z_vret (pc := 7) x hret dJ4_inflate_7
  · refine z_aload_n (pc := 8) x 0 dJ4_inflate_8 rfl rfl ?_
    refine z_get (pc := 9) (fun _ _ h => zAsR_eq h) x in_J5 (ci := 14) rfl (k := 0) (by decide) q304 (fun _ h => h) dJ4_inflate_9 fun v9 => ?_
    refine z_len (pc := 12) x dJ4_inflate_12 fun v12 => ?_
    refine z_call (pc := 13) (z_canS (pc := 13) (As := [zI v12]) (st := []) x (m_J7_newBytesFor hl v12) q297 q298 q120 q299 n_J7_newBytesFor ⟨by decide, by decide⟩ (Nat.le_of_ble_eq_true rfl) dJ4_inflate_13) (zv_R fun v13 => ?_) (fun q => zx_thr x (fun z hz => (htab z hz).elim) q)
    refine z_astore_n (pc := 16) (lv' := [(1, zP v13), (0, zP a0)]) x dJ4_inflate_16 rfl (Nat.le_of_ble_eq_true rfl) rfl ?_
    refine z_aload_n (pc := 17) x 1 dJ4_inflate_17 rfl rfl ?_
    refine z_get (pc := 18) (fun _ _ h => zAsR_eq h) x in_J5 (ci := 14) rfl (k := 0) (by decide) q304 (fun _ h => h) dJ4_inflate_18 fun v18 => ?_
    refine z_iconst (pc := 21) x (v := (0 : Int32)) dJ4_inflate_21 rfl ?_
    refine z_aload_n (pc := 22) x 0 dJ4_inflate_22 rfl rfl ?_
    refine z_iconst (pc := 23) x (v := (0 : Int32)) dJ4_inflate_23 rfl ?_
    refine z_aload_n (pc := 24) x 1 dJ4_inflate_24 rfl rfl ?_
    refine z_get (pc := 25) (fun _ _ h => zAsI_eq h) x in_J5 (ci := 14) rfl (k := 3) (by decide) q308 (fun _ h => h) dJ4_inflate_25 fun v25 => ?_
    refine z_call (pc := 28) (z_canS (pc := 28) (As := [zP v18, zI (0 : Int32), zP v13, zI (0 : Int32), zI v25]) (st := []) x (m_J18_inflate hl v18 (0 : Int32) v13 (0 : Int32) v25) q1304 q1305 q133 q1306 n_J18_inflate ⟨by decide, by decide⟩ (Nat.le_of_ble_eq_true rfl) dJ4_inflate_28) (zv_V ?_) (fun q => zx_thr x (fun z hz => (htab z hz).elim) q)
    refine z_aload_n (pc := 31) x 1 dJ4_inflate_31 rfl rfl ?_
    refine z_aload_n (pc := 32) x 0 dJ4_inflate_32 rfl rfl ?_
    refine z_set (pc := 33) (v := zP v13) x in_J5 tyJ5 tyJ5_ok nmJ5 (ci := 14) rfl (k := 0) (by decide) q304 (fun _ h => h) rfl (zfitR rfl _).1 (zfitR rfl _).2 dJ4_inflate_33 ?_
    refine z_aload_n (pc := 36) x 1 dJ4_inflate_36 rfl rfl ?_
    refine z_iconst (pc := 37) x (v := (1 : Int32)) dJ4_inflate_37 rfl ?_
    refine z_set_small fun hn hf => ?_
    refine z_set (pc := 38) (v := zI (1 : Int32)) x in_J5 tyJ5 tyJ5_ok nmJ5 (ci := 14) rfl (k := 1) (by decide) q305 (fun _ h => h) rfl hn hf dJ4_inflate_38 ?_
    exact z_vret (pc := 41) x hret dJ4_inflate_41
/-! J6_checkIndex -/
def s_J6_checkIndex (E : zE) (a0 : Int32) (a1 : Int32) : zM := zC (s_J17_checkIndex E a0 a1 (zOpt E 8)) zThr (zKI (fun v5 => zRet none))
theorem m_J6_checkIndex {l : Launch} {E : zE} {D : va_G} {tA : Nat → ClassId} (hl : l.stackTraces = false) (a0 : Int32) (a1 : Int32) : zMet l E D tA yJ6_checkIndex (ws_ yJ6_checkIndex cJ6_checkIndex 2 (Option.none : Option Jvm.ClassFile.FieldType)) 10 (s_J6_checkIndex E a0 a1) [zI a0, zI a1] := by
  refine z_met hl (by decide +kernel) (by rw [zSl_len]; exact (Nat.le_of_ble_eq_true rfl)) fun p e R s m args below meth c k0 x hret hnm htab => ?_
  refine z_lv [(0, zI a0), (1, zI a1)] rfl ?_
  unfold s_J6_checkIndex
  refine z_iload_n (pc := 0) x 0 dJ6_checkIndex_0 rfl rfl ?_
  refine z_iload_n (pc := 1) x 1 dJ6_checkIndex_1 rfl rfl ?_
  refine z_staQ (pc := 2) x (k := 8) (by decide) q1268 dJ6_checkIndex_2 ?_
  refine z_call (pc := 5) (z_canS (pc := 5) (As := [zI a0, zI a1, zP (zOpt E 8)]) (st := []) x (m_J17_checkIndex hl a0 a1 (zOpt E 8)) q1347 q855 q132 q856 n_J17_checkIndex ⟨by decide, by decide⟩ (Nat.le_of_ble_eq_true rfl) dJ6_checkIndex_5) (zv_I fun v5 => ?_) (fun q => zx_thr x (fun z hz => (htab z hz).elim) q)
  refine z_pop (pc := 8) x dJ6_checkIndex_8 rfl ?_
  exact z_vret (pc := 9) x hret dJ6_checkIndex_9
/-! J7_checkIndex -/
def s_J7_checkIndex (E : zE) (a0 : Int32) (a1 : Option Nat) : zM := zC (s_J7_length E a1) zThr (zKI (fun v2 => zC (s_J6_checkIndex E a0 v2) zThr (zKV (zRet none))))
theorem m_J7_checkIndex {l : Launch} {E : zE} {D : va_G} {tA : Nat → ClassId} (hl : l.stackTraces = false) (a0 : Int32) (a1 : Option Nat) : zMet l E D tA yJ7_checkIndex (ws_ yJ7_checkIndex cJ7_checkIndex 2 (Option.none : Option Jvm.ClassFile.FieldType)) 11 (s_J7_checkIndex E a0 a1) [zI a0, zP a1] := by
  refine z_met hl (by decide +kernel) (by rw [zSl_len]; exact (Nat.le_of_ble_eq_true rfl)) fun p e R s m args below meth c k0 x hret hnm htab => ?_
  refine z_lv [(0, zI a0), (1, zP a1)] rfl ?_
  unfold s_J7_checkIndex
  refine z_iload_n (pc := 0) x 0 dJ7_checkIndex_0 rfl rfl ?_
  refine z_aload_n (pc := 1) x 1 dJ7_checkIndex_1 rfl rfl ?_
  refine z_call (pc := 2) (z_canS (pc := 2) (As := [zP a1]) (st := [zI a0]) x (m_J7_length hl a1) q1262 q1263 q120 q1264 n_J7_length ⟨by decide, by decide⟩ (Nat.le_of_ble_eq_true rfl) dJ7_checkIndex_2) (zv_I fun v2 => ?_) (fun q => zx_thr x (fun z hz => (htab z hz).elim) q)
  refine z_call (pc := 5) (z_canS (pc := 5) (As := [zI a0, zI v2]) (st := []) x (m_J6_checkIndex hl a0 v2) q1344 q1345 q119 q1346 n_J6_checkIndex ⟨by decide, by decide⟩ (Nat.le_of_ble_eq_true rfl) dJ7_checkIndex_5) (zv_V ?_) (fun q => zx_thr x (fun z hz => (htab z hz).elim) q)
  exact z_vret (pc := 8) x hret dJ7_checkIndex_8
/-! J7_putCharSB -/
def s_J7_putCharSB (E : zE) (a0 : Option Nat) (a1 : Int32) (a2 : Int32) : zM := zC (s_J7_checkIndex E a1 a0) zThr (zKV (zC (s_J7_putChar E a0 a1 a2) zThr (zKV (zRet none))))
theorem m_J7_putCharSB {l : Launch} {E : zE} {D : va_G} {tA : Nat → ClassId} (hl : l.stackTraces = false) (a0 : Option Nat) (a1 : Int32) (a2 : Int32) : zMet l E D tA yJ7_putCharSB (ws_ yJ7_putCharSB cJ7_putCharSB 3 (Option.none : Option Jvm.ClassFile.FieldType)) 12 (s_J7_putCharSB E a0 a1 a2) [zP a0, zI a1, zI a2] := by
  refine z_met hl (by decide +kernel) (by rw [zSl_len]; exact (Nat.le_of_ble_eq_true rfl)) fun p e R s m args below meth c k0 x hret hnm htab => ?_
  refine z_lv [(0, zP a0), (1, zI a1), (2, zI a2)] rfl ?_
  unfold s_J7_putCharSB
  refine z_iload_n (pc := 0) x 1 dJ7_putCharSB_0 rfl rfl ?_
  refine z_aload_n (pc := 1) x 0 dJ7_putCharSB_1 rfl rfl ?_
  refine z_call (pc := 2) (z_canS (pc := 2) (As := [zI a1, zP a0]) (st := []) x (m_J7_checkIndex hl a1 a0) q1341 q1342 q120 q1343 n_J7_checkIndex ⟨by decide, by decide⟩ (Nat.le_of_ble_eq_true rfl) dJ7_putCharSB_2) (zv_V ?_) (fun q => zx_thr x (fun z hz => (htab z hz).elim) q)
  refine z_aload_n (pc := 5) x 0 dJ7_putCharSB_5 rfl rfl ?_
  refine z_iload_n (pc := 6) x 1 dJ7_putCharSB_6 rfl rfl ?_
  refine z_iload_n (pc := 7) x 2 dJ7_putCharSB_7 rfl rfl ?_
  refine z_call (pc := 8) (z_canS (pc := 8) (As := [zP a0, zI a1, zI a2]) (st := []) x (m_J7_putChar hl a0 a1 a2) q1273 q1274 q120 q1275 n_J7_putChar ⟨by decide, by decide⟩ (Nat.le_of_ble_eq_true rfl) dJ7_putCharSB_8) (zv_V ?_) (fun q => zx_thr x (fun z hz => (htab z hz).elim) q)
  exact z_vret (pc := 11) x hret dJ7_putCharSB_11
/-! J4_append_2 -/
def s_J4_append_2_56 (E : zE) (a0 : Option Nat) (a1 : Int32) : zM := zGetR a0 14 0 (fun v57 => zGetI a0 14 3 (fun v62 => zSet E a0 14 3 (zVal (zI (v62 + (1 : Int32)))) (zC (s_J7_putCharSB E v57 v62 a1) zThr (zKV (zRet (some (va_rf a0)))))))
theorem w_J4_append_2_56 (x : zCx p l R s m args meth c E D tA cJ4_append_2 2 yJ4_append_2.cls 15) (hl : l.stackTraces = false) (hret : meth.sig.returnType = (Option.some (Jvm.ClassFile.FieldType.object "java/lang/AbstractStringBuilder"))) (hnm : meth.name = yJ4_append_2.name) (htab : ∀ z ∈ c.exceptionTable.toList, False) (a0 : Option Nat) (a1 : Int32) : zW p l e R s m args below meth c E D tA 2 k0 (s_J4_append_2_56 E a0 a1) [(0, zP a0), (1, zI a1)] 56 [] := by
  unfold s_J4_append_2_56
  refine z_aload_n (pc := 56) x 0 dJ4_append_2_56 rfl rfl ?_
  refine z_get (pc := 57) (fun _ _ h => zAsR_eq h) x in_J5 (ci := 14) rfl (k := 0) (by decide) q304 (fun _ h => h) dJ4_append_2_57 fun v57 => ?_
  refine z_aload_n (pc := 60) x 0 dJ4_append_2_60 rfl rfl ?_
  refine z_dup (pc := 61) x dJ4_append_2_61 rfl ?_
  refine z_get (pc := 62) (fun _ _ h => zAsI_eq h) x in_J5 (ci := 14) rfl (k := 3) (by decide) q308 (fun _ h => h) dJ4_append_2_62 fun v62 => ?_
  refine z_dup_x1 (pc := 65) x dJ4_append_2_65 rfl rfl ?_
  refine z_iconst (pc := 66) x (v := (1 : Int32)) dJ4_append_2_66 rfl ?_
  refine z_iadd (pc := 67) x dJ4_append_2_67 ?_
  refine z_set (pc := 68) (v := zI (v62 + (1 : Int32))) x in_J5 tyJ5 tyJ5_ok nmJ5 (ci := 14) rfl (k := 3) (by decide) q308 (fun _ h => h) rfl rfl rfl dJ4_append_2_68 ?_
  refine z_iload_n (pc := 71) x 1 dJ4_append_2_71 rfl rfl ?_
  refine z_call (pc := 72) (z_canS (pc := 72) (As := [zP v57, zI v62, zI a1]) (st := []) x (m_J7_putCharSB hl v57 v62 a1) q1338 q1339 q120 q1340 n_J7_putCharSB ⟨by decide, by decide⟩ (Nat.le_of_ble_eq_true rfl) dJ4_append_2_72) (zv_V ?_) (fun q => zx_thr x (fun z hz => (htab z hz).elim) q)
  refine z_aload_n (pc := 75) x 0 dJ4_append_2_75 rfl rfl ?_
  exact z_aret (pc := 76) x hret (Or.inl ⟨_, rfl⟩) dJ4_append_2_76
def s_J4_append_2_45 (E : zE) (a0 : Option Nat) (a1 : Int32) : zM := zC (zRv a0 [(14, fun b => s_J4_isLatin1 E (some b))]) zThr (zKI (fun v46 => if v46 = 0 then (s_J4_append_2_56 E a0 a1) else (zC (zRv a0 [(14, fun b => s_J4_inflate E (some b))]) zThr (zKV (s_J4_append_2_56 E a0 a1)))))
theorem w_J4_append_2_45 (x : zCx p l R s m args meth c E D tA cJ4_append_2 2 yJ4_append_2.cls 15) (hl : l.stackTraces = false) (hret : meth.sig.returnType = (Option.some (Jvm.ClassFile.FieldType.object "java/lang/AbstractStringBuilder"))) (hnm : meth.name = yJ4_append_2.name) (htab : ∀ z ∈ c.exceptionTable.toList, False) (a0 : Option Nat) (a1 : Int32) : zW p l e R s m args below meth c E D tA 2 k0 (s_J4_append_2_45 E a0 a1) [(0, zP a0), (1, zI a1)] 45 [] := by
  unfold s_J4_append_2_45
  refine z_aload_n (pc := 45) x 0 dJ4_append_2_45 rfl rfl ?_
  refine z_call (pc := 46) (z_canV (pc := 46) (As := []) (st := []) x (ci := 14) rfl (fun b => m_J4_isLatin1 hl (some b)) q1251 q1252 (x.2.2.2.2.1 _ q1254) q117 q1255 n_J4_isLatin1 ⟨by decide, by decide⟩ (Nat.le_of_ble_eq_true rfl) dJ4_append_2_46) (zv_I fun v46 => ?_) (fun q => zx_thr x (fun z hz => (htab z hz).elim) q)
  refine z_if_eq (pc := 49) (tgt := 56) x dJ4_append_2_49 rfl (fun _ => ?_) (fun _ => ?_)
  · exact z_sub [0, 1] rfl (w_J4_append_2_56 x hl hret hnm htab a0 a1)
  · refine z_aload_n (pc := 52) x 0 dJ4_append_2_52 rfl rfl ?_
    refine z_call (pc := 53) (z_canV (pc := 53) (As := []) (st := []) x (ci := 14) rfl (fun b => m_J4_inflate hl (some b)) q1300 q1302 (z_selP x (ci := 14) rfl (by decide) (zNi_sel (z := ⟨"java/lang/AbstractStringBuilder", "isLatin1", "()Z"⟩) x q1254) q1301 q1302) q117 q1303 n_J4_inflate ⟨by decide, by decide⟩ (Nat.le_of_ble_eq_true rfl) dJ4_append_2_53) (zv_V ?_) (fun q => zx_thr x (fun z hz => (htab z hz).elim) q)
    exact z_sub [0, 1] rfl (w_J4_append_2_56 x hl hret hnm htab a0 a1)
def s_J4_append_2 (E : zE) (a0 : Option Nat) (a1 : Int32) : zM := zGetI a0 14 3 (fun v2 => zC (zRv a0 [(14, fun b => s_J4_ensureCapacityInternal E (some b) (v2 + (1 : Int32)))]) zThr (zKV (zC (zRv a0 [(14, fun b => s_J4_isLatin1 E (some b))]) zThr (zKI (fun v11 => if v11 = 0 then (s_J4_append_2_45 E a0 a1) else (zC (s_J18_canEncode E a1) zThr (zKI (fun v18 => if v18 = 0 then (s_J4_append_2_45 E a0 a1) else (zGetR a0 14 0 (fun v25 => zGetI a0 14 3 (fun v30 => zSet E a0 14 3 (zVal (zI (v30 + (1 : Int32)))) (zSaI E 1 v25 v30 (vp_nar .byte ((a1).toInt8.toInt32)) (zRet (some (va_rf a0)))))))))))))))
theorem m_J4_append_2 {l : Launch} {E : zE} {D : va_G} {tA : Nat → ClassId} (hl : l.stackTraces = false) (a0 : Option Nat) (a1 : Int32) : zMet l E D tA yJ4_append_2 (ws_ yJ4_append_2 cJ4_append_2 2 (Option.some (Jvm.ClassFile.FieldType.object "java/lang/AbstractStringBuilder"))) 15 (s_J4_append_2 E a0 a1) [zP a0, zI a1] := by
  refine z_met hl (by decide +kernel) (by rw [zSl_len]; exact (Nat.le_of_ble_eq_true rfl)) fun p e R s m args below meth c k0 x hret hnm htab => ?_
  refine z_lv [(0, zP a0), (1, zI a1)] rfl ?_
  unfold s_J4_append_2
  refine z_aload_n (pc := 0) x 0 dJ4_append_2_0 rfl rfl ?_
  refine z_aload_n (pc := 1) x 0 dJ4_append_2_1 rfl rfl ?_
  refine z_get (pc := 2) (fun _ _ h => zAsI_eq h) x in_J5 (ci := 14) rfl (k := 3) (by decide) q308 (fun _ h => h) dJ4_append_2_2 fun v2 => ?_
  refine z_iconst (pc := 5) x (v := (1 : Int32)) dJ4_append_2_5 rfl ?_
  refine z_iadd (pc := 6) x dJ4_append_2_6 ?_
  refine z_call (pc := 7) (z_canV (pc := 7) (As := [zI (v2 + (1 : Int32))]) (st := []) x (ci := 14) rfl (fun b => m_J4_ensureCapacityInternal hl (some b) (v2 + (1 : Int32))) q1233 q1235 (z_selP x (ci := 14) rfl (by decide) (zNi_sel (z := ⟨"java/lang/AbstractStringBuilder", "isLatin1", "()Z"⟩) x q1254) q1234 q1235) q117 q1236 n_J4_ensureCapacityInternal ⟨by decide, by decide⟩ (Nat.le_of_ble_eq_true rfl) dJ4_append_2_7) (zv_V ?_) (fun q => zx_thr x (fun z hz => (htab z hz).elim) q)
  refine z_aload_n (pc := 10) x 0 dJ4_append_2_10 rfl rfl ?_
  refine z_call (pc := 11) (z_canV (pc := 11) (As := []) (st := []) x (ci := 14) rfl (fun b => m_J4_isLatin1 hl (some b)) q1251 q1252 (x.2.2.2.2.1 _ q1254) q117 q1255 n_J4_isLatin1 ⟨by decide, by decide⟩ (Nat.le_of_ble_eq_true rfl) dJ4_append_2_11) (zv_I fun v11 => ?_) (fun q => zx_thr x (fun z hz => (htab z hz).elim) q)
  refine z_if_eq (pc := 14) (tgt := 45) x dJ4_append_2_14 rfl (fun _ => ?_) (fun _ => ?_)
  · exact z_sub [0, 1] rfl (w_J4_append_2_45 x hl hret hnm htab a0 a1)
  · refine z_iload_n (pc := 17) x 1 dJ4_append_2_17 rfl rfl ?_
    refine z_call (pc := 18) (z_canS (pc := 18) (As := [zI a1]) (st := []) x (m_J18_canEncode hl a1) q1335 q1336 q133 q1337 n_J18_canEncode ⟨by decide, by decide⟩ (Nat.le_of_ble_eq_true rfl) dJ4_append_2_18) (zv_I fun v18 => ?_) (fun q => zx_thr x (fun z hz => (htab z hz).elim) q)
    refine z_if_eq (pc := 21) (tgt := 45) x dJ4_append_2_21 rfl (fun _ => ?_) (fun _ => ?_)
    · exact z_sub [0, 1] rfl (w_J4_append_2_45 x hl hret hnm htab a0 a1)
    · refine z_aload_n (pc := 24) x 0 dJ4_append_2_24 rfl rfl ?_
      refine z_get (pc := 25) (fun _ _ h => zAsR_eq h) x in_J5 (ci := 14) rfl (k := 0) (by decide) q304 (fun _ h => h) dJ4_append_2_25 fun v25 => ?_
      refine z_aload_n (pc := 28) x 0 dJ4_append_2_28 rfl rfl ?_
      refine z_dup (pc := 29) x dJ4_append_2_29 rfl ?_
      refine z_get (pc := 30) (fun _ _ h => zAsI_eq h) x in_J5 (ci := 14) rfl (k := 3) (by decide) q308 (fun _ h => h) dJ4_append_2_30 fun v30 => ?_
      refine z_dup_x1 (pc := 33) x dJ4_append_2_33 rfl rfl ?_
      refine z_iconst (pc := 34) x (v := (1 : Int32)) dJ4_append_2_34 rfl ?_
      refine z_iadd (pc := 35) x dJ4_append_2_35 ?_
      refine z_set (pc := 36) (v := zI (v30 + (1 : Int32))) x in_J5 tyJ5 tyJ5_ok nmJ5 (ci := 14) rfl (k := 3) (by decide) q308 (fun _ h => h) rfl rfl rfl dJ4_append_2_36 ?_
      refine z_iload_n (pc := 39) x 1 dJ4_append_2_39 rfl rfl ?_
      refine z_i2b (pc := 40) x dJ4_append_2_40 ?_
      refine z_bast (pc := 41) x (t := 1) rfl dJ4_append_2_41 ?_
      refine z_goto (pc := 42) (tgt := 75) x dJ4_append_2_42 rfl ?_
      refine z_aload_n (pc := 75) x 0 dJ4_append_2_75 rfl rfl ?_
      exact z_aret (pc := 76) x hret (Or.inl ⟨_, rfl⟩) dJ4_append_2_76
/-! J5_append_2 -/
def s_J5_append_2 (E : zE) (a0 : Option Nat) (a1 : Int32) : zM := zC (zRv a0 [(14, fun b => s_J4_append_2 E (some b) a1)]) zThr (zKR (fun v2 => zRet (some (va_rf a0))))
theorem m_J5_append_2 {l : Launch} {E : zE} {D : va_G} {tA : Nat → ClassId} (hl : l.stackTraces = false) (a0 : Option Nat) (a1 : Int32) : zMet l E D tA yJ5_append_2 (ws_ yJ5_append_2 cJ5_append_2 2 (Option.some (Jvm.ClassFile.FieldType.object "java/lang/StringBuilder"))) 16 (s_J5_append_2 E a0 a1) [zP a0, zI a1] := by
  refine z_met hl (by decide +kernel) (by rw [zSl_len]; exact (Nat.le_of_ble_eq_true rfl)) fun p e R s m args below meth c k0 x hret hnm htab => ?_
  refine z_lv [(0, zP a0), (1, zI a1)] rfl ?_
  unfold s_J5_append_2
  refine z_aload_n (pc := 0) x 0 dJ5_append_2_0 rfl rfl ?_
  refine z_iload_n (pc := 1) x 1 dJ5_append_2_1 rfl rfl ?_
  refine z_call (pc := 2) (z_canSU (pc := 2) (As := [zI a1]) (st := []) x (ci := 14) rfl (fun b => m_J4_append_2 hl (some b) a1) q1332 q3357 q317 (by decide) q1333 q117 q1334 n_J4_append_2 ⟨by decide, by decide⟩ (Nat.le_of_ble_eq_true rfl) dJ5_append_2_2) (zv_R fun v2 => ?_) (fun q => zx_thr x (fun z hz => (htab z hz).elim) q)
  refine z_pop (pc := 5) x dJ5_append_2_5 rfl ?_
  refine z_aload_n (pc := 6) x 0 dJ5_append_2_6 rfl rfl ?_
  exact z_aret (pc := 7) x hret (Or.inl ⟨_, rfl⟩) dJ5_append_2_7
/-! X1_append -/
def s_X1_append_17 (E : zE) (a0 : Option Nat) (a1 : Int32) (b0 : Int32) : zM := zC (s_X1_requireState E b0) zThr (zKV (zGetR a0 16 4 (fun v21 => zC (zRv v21 [(14, fun b => s_J5_append_2 E (some b) a1)]) zThr (zKR (fun v25 => zGetR a0 16 4 (fun v30 => zC (zRv v30 [(14, fun b => s_J5_length E (some b))]) zThr (zKI (fun v33 => zRet (some (.int v33))))))))))
theorem w_X1_append_17 (x : zCx p l R s m args meth c E D tA cX1_append 2 yX1_append.cls 17) (hl : l.stackTraces = false) (hret : meth.sig.returnType = (Option.some Jvm.ClassFile.FieldType.int)) (hnm : meth.name = yX1_append.name) (htab : ∀ z ∈ c.exceptionTable.toList, False) (a0 : Option Nat) (a1 : Int32) (b0 : Int32) : zW p l e R s m args below meth c E D tA 2 k0 (s_X1_append_17 E a0 a1 b0) [(0, zP a0), (1, zI a1)] 17 [zI b0] := by
  unfold s_X1_append_17
  refine z_call (pc := 17) (z_canS (pc := 17) (As := [zI b0]) (st := []) x (m_X1_requireState hl b0) q2148 q1553 q108 q1554 n_X1_requireState ⟨by decide, by decide⟩ (Nat.le_of_ble_eq_true rfl) dX1_append_17) (zv_V ?_) (fun q => zx_thr x (fun z hz => (htab z hz).elim) q)
  refine z_aload_n (pc := 20) x 0 dX1_append_20 rfl rfl ?_
  refine z_get (pc := 21) (fun _ _ h => zAsR_eq h) x in_X1 (ci := 16) rfl (k := 4) (by decide) q325 (fun _ h => h) dX1_append_21 fun v21 => ?_
  refine z_iload_n (pc := 24) x 1 dX1_append_24 rfl rfl ?_
  refine z_call (pc := 25) (z_canV (pc := 25) (As := [zI a1]) (st := []) x (ci := 14) rfl (fun b => m_J5_append_2 hl (some b) a1) q1328 q1329 (x.2.2.2.2.1 _ q1330) q118 q1331 n_J5_append_2 ⟨by decide, by decide⟩ (Nat.le_of_ble_eq_true rfl) dX1_append_25) (zv_R fun v25 => ?_) (fun q => zx_thr x (fun z hz => (htab z hz).elim) q)
  refine z_pop (pc := 28) x dX1_append_28 rfl ?_
  refine z_aload_n (pc := 29) x 0 dX1_append_29 rfl rfl ?_
  refine z_get (pc := 30) (fun _ _ h => zAsR_eq h) x in_X1 (ci := 16) rfl (k := 4) (by decide) q325 (fun _ h => h) dX1_append_30 fun v30 => ?_
  refine z_call (pc := 33) (z_canV (pc := 33) (As := []) (st := []) x (ci := 14) rfl (fun b => m_J5_length hl (some b)) q2147 q1214 (x.2.2.2.2.1 _ q1215) q118 q1216 n_J5_length ⟨by decide, by decide⟩ (Nat.le_of_ble_eq_true rfl) dX1_append_33) (zv_I fun v33 => ?_) (fun q => zx_thr x (fun z hz => (htab z hz).elim) q)
  exact z_iret (pc := 36) x hret dX1_append_36
def s_X1_append (E : zE) (a0 : Option Nat) (a1 : Int32) : zM := zGetR a0 16 4 (fun v1 => zC (zRv v1 [(14, fun b => s_J5_length E (some b))]) zThr (zKI (fun v4 => if (60 : Int32) ≤ v4 then (s_X1_append_17 E a0 a1 (0 : Int32)) else (s_X1_append_17 E a0 a1 (1 : Int32)))))
theorem m_X1_append {l : Launch} {E : zE} {D : va_G} {tA : Nat → ClassId} (hl : l.stackTraces = false) (a0 : Option Nat) (a1 : Int32) : zMet l E D tA yX1_append (ws_ yX1_append cX1_append 2 (Option.some Jvm.ClassFile.FieldType.int)) 17 (s_X1_append E a0 a1) [zP a0, zI a1] := by
  refine z_met hl (by decide +kernel) (by rw [zSl_len]; exact (Nat.le_of_ble_eq_true rfl)) fun p e R s m args below meth c k0 x hret hnm htab => ?_
  refine z_lv [(0, zP a0), (1, zI a1)] rfl ?_
  unfold s_X1_append
  refine z_aload_n (pc := 0) x 0 dX1_append_0 rfl rfl ?_
  refine z_get (pc := 1) (fun _ _ h => zAsR_eq h) x in_X1 (ci := 16) rfl (k := 4) (by decide) q325 (fun _ h => h) dX1_append_1 fun v1 => ?_
  refine z_call (pc := 4) (z_canV (pc := 4) (As := []) (st := []) x (ci := 14) rfl (fun b => m_J5_length hl (some b)) q2147 q1214 (x.2.2.2.2.1 _ q1215) q118 q1216 n_J5_length ⟨by decide, by decide⟩ (Nat.le_of_ble_eq_true rfl) dX1_append_4) (zv_I fun v4 => ?_) (fun q => zx_thr x (fun z hz => (htab z hz).elim) q)
  refine z_bipush (pc := 7) x (v := (60 : Int32)) dX1_append_7 rfl ?_
  refine z_icmp_ge (pc := 9) (tgt := 16) x dX1_append_9 rfl (fun _ => ?_) (fun _ => ?_)
  · refine z_iconst (pc := 16) x (v := (0 : Int32)) dX1_append_16 rfl ?_
    exact z_sub [0, 1] rfl (w_X1_append_17 x hl hret hnm htab a0 a1 (0 : Int32))
  · refine z_iconst (pc := 12) x (v := (1 : Int32)) dX1_append_12 rfl ?_
    refine z_goto (pc := 13) (tgt := 17) x dX1_append_13 rfl ?_
    exact z_sub [0, 1] rfl (w_X1_append_17 x hl hret hnm htab a0 a1 (1 : Int32))
/-! X0_append -/
def s_X0_append_12 (E : zE) (b0 : Option Nat) : zM := zRet (some (.int (1 : Int32)))
theorem w_X0_append_12 (x : zCx p l R s m args meth c E D tA cX0_append 4 yX0_append.cls 18) (hl : l.stackTraces = false) (hret : meth.sig.returnType = (Option.some Jvm.ClassFile.FieldType.int)) (hnm : meth.name = yX0_append.name) (htab : c.exceptionTable.toList = tableOf [(0, 9, 12, 17)]) (b0 : Option Nat) : zW p l e R s m args below meth c E D tA 4 k0 (s_X0_append_12 E b0) [] 12 [zP b0] := by
  unfold s_X0_append_12
  refine z_astore_n (pc := 12) (lv' := [(3, zP b0)]) x dX0_append_12 rfl (Nat.le_of_ble_eq_true rfl) rfl ?_
  refine z_iconst (pc := 13) x (v := (1 : Int32)) dX0_append_13 rfl ?_
  exact z_iret (pc := 14) x hret dX0_append_14
def s_X0_append (E : zE) (a0 : Option Nat) (a1 : Int32) (a2 : Option Nat) : zM := zC (zRv a0 [(16, fun b => s_X1_append E (some b) a1)]) (fun q => zCat1 q [(5, s_X0_append_12 E (some q))]) (zKI (fun v4 => zSaL E 3 a2 (0 : Int32) ((v4).toInt64) (zRet (some (.int (0 : Int32))))))
theorem m_X0_append {l : Launch} {E : zE} {D : va_G} {tA : Nat → ClassId} (hl : l.stackTraces = false) (a0 : Option Nat) (a1 : Int32) (a2 : Option Nat) : zMet l E D tA yX0_append (wsW_ yX0_append cX0_append 4 (Option.some Jvm.ClassFile.FieldType.int) [(0, 9, 12, 17)]) 18 (s_X0_append E a0 a1 a2) [zP a0, zI a1, zP a2] := by
  refine z_metW hl (by decide +kernel) (by rw [zSl_len]; exact (Nat.le_of_ble_eq_true rfl)) fun p e R s m args below meth c k0 x hret hnm htab => ?_
  refine z_lv [(0, zP a0), (1, zI a1), (2, zP a2)] rfl ?_
  unfold s_X0_append
  refine z_aload_n (pc := 0) x 2 dX0_append_0 rfl rfl ?_
  refine z_iconst (pc := 1) x (v := (0 : Int32)) dX0_append_1 rfl ?_
  refine z_aload_n (pc := 2) x 0 dX0_append_2 rfl rfl ?_
  refine z_iload_n (pc := 3) x 1 dX0_append_3 rfl rfl ?_
  refine z_call (pc := 4) (z_canV (pc := 4) (As := [zI a1]) (st := [zI (0 : Int32), zP a2]) x (ci := 16) rfl (fun b => m_X1_append hl (some b) a1) q2143 q2144 (x.2.2.2.2.1 _ q2145) q108 q2146 n_X1_append ⟨by decide, by decide⟩ (Nat.le_of_ble_eq_true rfl) dX0_append_4) (zv_I fun v4 => ?_) (fun q => zx_cat x [(5, s_X0_append_12 E (some q), ⟨0, 9, 12, 17⟩)] htab (List.forall_mem_cons.mpr ⟨⟨rfl, (show (17 : Nat) ≠ 0 by decide), q1464, z_sub [] rfl (w_X0_append_12 x hl hret hnm htab (some q))⟩, (fun _ hj => nomatch hj)⟩))
  refine z_i2l (pc := 7) x dX0_append_7 ?_
  refine z_last (pc := 8) x (t := 3) rfl dX0_append_8 ?_
  refine z_goto (pc := 9) (tgt := 15) x dX0_append_9 rfl ?_
  refine z_iconst (pc := 15) x (v := (0 : Int32)) dX0_append_15 rfl ?_
  exact z_iret (pc := 16) x hret dX0_append_16
/-! J4_getValue -/
def s_J4_getValue (E : zE) (a0 : Option Nat) : zM := zGetR a0 14 0 (fun v1 => zRet (some (va_rf v1)))
theorem m_J4_getValue {l : Launch} {E : zE} {D : va_G} {tA : Nat → ClassId} (hl : l.stackTraces = false) (a0 : Option Nat) : zMet l E D tA yJ4_getValue (ws_ yJ4_getValue cJ4_getValue 1 (Option.some (Jvm.ClassFile.FieldType.array Jvm.ClassFile.FieldType.byte))) 9 (s_J4_getValue E a0) [zP a0] := by
  refine z_met hl (by decide +kernel) (by rw [zSl_len]; exact (Nat.le_of_ble_eq_true rfl)) fun p e R s m args below meth c k0 x hret hnm htab => ?_
  refine z_lv [(0, zP a0)] rfl ?_
  unfold s_J4_getValue
  refine z_aload_n (pc := 0) x 0 dJ4_getValue_0 rfl rfl ?_
  refine z_get (pc := 1) (fun _ _ h => zAsR_eq h) x in_J5 (ci := 14) rfl (k := 0) (by decide) q304 (fun _ h => h) dJ4_getValue_1 fun v1 => ?_
  exact z_aret (pc := 4) x hret (Or.inr ⟨_, rfl⟩) dJ4_getValue_4
/-! J8_checkLength -/
def s_J8_checkLength (E : zE) (a0 : Int32) (a1 : Int32) : zM := if a0 ≤ a1 then (zRet none) else zFail
theorem m_J8_checkLength {l : Launch} {E : zE} {D : va_G} {tA : Nat → ClassId} (hl : l.stackTraces = false) (a0 : Int32) (a1 : Int32) : zMet l E D tA yJ8_checkLength (ws_ yJ8_checkLength cJ8_checkLength 2 (Option.none : Option Jvm.ClassFile.FieldType)) 9 (s_J8_checkLength E a0 a1) [zI a0, zI a1] := by
  refine z_met hl (by decide +kernel) (by rw [zSl_len]; exact (Nat.le_of_ble_eq_true rfl)) fun p e R s m args below meth c k0 x hret hnm htab => ?_
  refine z_lv [(0, zI a0), (1, zI a1)] rfl ?_
  unfold s_J8_checkLength
  refine z_iload_n (pc := 0) x 1 dJ8_checkLength_0 rfl rfl ?_
  refine z_iload_n (pc := 1) x 0 dJ8_checkLength_1 rfl rfl ?_
  refine z_icmp_ge (pc := 2) (tgt := 37) x dJ8_checkLength_2 rfl (fun _ => ?_) (fun _ => ?_)
  · exact z_vret (pc := 37) x hret dJ8_checkLength_37
  · exact z_fail
/-! J8_copyOfRangeByte -/
def s_J8_copyOfRangeByte (E : zE) (a0 : Option Nat) (a1 : Int32) (a2 : Int32) : zM := zC (s_J8_checkLength E a1 a2) zThr (zKV (zNewA 1 zAr0 (a2 - a1) (fun v10 => zLen a0 (fun v20 => zCpI E 1 a0 a1 v10 (0 : Int32) (if (a2 - a1) < (v20 - a1) then (a2 - a1) else (v20 - a1)) (zRet (some (va_rf v10)))))))
theorem m_J8_copyOfRangeByte {l : Launch} {E : zE} {D : va_G} {tA : Nat → ClassId} (hl : l.stackTraces = false) (a0 : Option Nat) (a1 : Int32) (a2 : Int32) : zMet l E D tA yJ8_copyOfRangeByte (ws_ yJ8_copyOfRangeByte cJ8_copyOfRangeByte 5 (Option.some (Jvm.ClassFile.FieldType.array Jvm.ClassFile.FieldType.byte))) 10 (s_J8_copyOfRangeByte E a0 a1 a2) [zP a0, zI a1, zI a2] := by
  refine z_met hl (by decide +kernel) (by rw [zSl_len]; exact (Nat.le_of_ble_eq_true rfl)) fun p e R s m args below meth c k0 x hret hnm htab => ?_
  refine z_lv [(0, zP a0), (1, zI a1), (2, zI a2)] rfl ?_
  unfold s_J8_copyOfRangeByte
  refine z_iload_n (pc := 0) x 1 dJ8_copyOfRangeByte_0 rfl rfl ?_
  refine z_iload_n (pc := 1) x 2 dJ8_copyOfRangeByte_1 rfl rfl ?_
  refine z_call (pc := 2) (z_canS (pc := 2) (As := [zI a1, zI a2]) (st := []) x (m_J8_checkLength hl a1 a2) q1399 q1400 q122 q1401 n_J8_checkLength ⟨by decide, by decide⟩ (Nat.le_of_ble_eq_true rfl) dJ8_copyOfRangeByte_2) (zv_V ?_) (fun q => zx_thr x (fun z hz => (htab z hz).elim) q)
  refine z_iload_n (pc := 5) x 2 dJ8_copyOfRangeByte_5 rfl rfl ?_
  refine z_iload_n (pc := 6) x 1 dJ8_copyOfRangeByte_6 rfl rfl ?_
  refine z_isub (pc := 7) x dJ8_copyOfRangeByte_7 ?_
  refine z_istore_n (pc := 8) (lv' := [(3, zI (a2 - a1)), (0, zP a0), (1, zI a1), (2, zI a2)]) x dJ8_copyOfRangeByte_8 rfl (Nat.le_of_ble_eq_true rfl) rfl ?_
  refine z_iload_n (pc := 9) x 0 dJ8_copyOfRangeByte_9 rfl rfl ?_
  refine z_newA (pc := 10) x (ty := .byte) rfl (by decide) rfl q318 (fun _ _ => rfl) dJ8_copyOfRangeByte_10 fun v10 => ?_
  refine z_astore (pc := 12) (lv' := [(4, zP v10), (3, zI (a2 - a1)), (0, zP a0), (1, zI a1), (2, zI a2)]) x dJ8_copyOfRangeByte_12 (Nat.le_of_ble_eq_true rfl) rfl ?_
  refine z_aload_n (pc := 14) x 2 dJ8_copyOfRangeByte_14 rfl rfl ?_
  refine z_iload_n (pc := 15) x 3 dJ8_copyOfRangeByte_15 rfl rfl ?_
  refine z_aload (pc := 16) x 0 dJ8_copyOfRangeByte_16 rfl ?_
  refine z_iconst (pc := 18) x (v := (0 : Int32)) dJ8_copyOfRangeByte_18 rfl ?_
  refine z_aload_n (pc := 19) x 2 dJ8_copyOfRangeByte_19 rfl rfl ?_
  refine z_len (pc := 20) x dJ8_copyOfRangeByte_20 fun v20 => ?_
  refine z_iload_n (pc := 21) x 3 dJ8_copyOfRangeByte_21 rfl rfl ?_
  refine z_isub (pc := 22) x dJ8_copyOfRangeByte_22 ?_
  refine z_iload_n (pc := 23) x 1 dJ8_copyOfRangeByte_23 rfl rfl ?_
  refine z_mmin (pc := 24) x q739 q613 q130 q614 (by omega) (zSum (k := 4) rfl (by omega)) dJ8_copyOfRangeByte_24 ?_
  refine z_cpyI (pc := 27) x (t := 1) (ty := .byte) rfl rfl q740 q742 q741 q131 (by omega) (zSum (k := 0) rfl (by omega)) dJ8_copyOfRangeByte_27 ?_
  refine z_aload (pc := 30) x 0 dJ8_copyOfRangeByte_30 rfl ?_
  exact z_aret (pc := 32) x hret (Or.inr ⟨_, rfl⟩) dJ8_copyOfRangeByte_32
/-! J8_copyOfRange -/
def s_J8_copyOfRange_10 (E : zE) (a0 : Option Nat) (a1 : Int32) (a2 : Int32) : zM := zC (s_J8_copyOfRangeByte E a0 a1 a2) zThr (zKR (fun v13 => zRet (some (va_rf v13))))
theorem w_J8_copyOfRange_10 (x : zCx p l R s m args meth c E D tA cJ8_copyOfRange 3 yJ8_copyOfRange.cls 11) (hl : l.stackTraces = false) (hret : meth.sig.returnType = (Option.some (Jvm.ClassFile.FieldType.array Jvm.ClassFile.FieldType.byte))) (hnm : meth.name = yJ8_copyOfRange.name) (htab : ∀ z ∈ c.exceptionTable.toList, False) (a0 : Option Nat) (a1 : Int32) (a2 : Int32) : zW p l e R s m args below meth c E D tA 3 k0 (s_J8_copyOfRange_10 E a0 a1 a2) [(0, zP a0), (1, zI a1), (2, zI a2)] 10 [] := by
  unfold s_J8_copyOfRange_10
  refine z_aload_n (pc := 10) x 0 dJ8_copyOfRange_10 rfl rfl ?_
  refine z_iload_n (pc := 11) x 1 dJ8_copyOfRange_11 rfl rfl ?_
  refine z_iload_n (pc := 12) x 2 dJ8_copyOfRange_12 rfl rfl ?_
  refine z_call (pc := 13) (z_canS (pc := 13) (As := [zP a0, zI a1, zI a2]) (st := []) x (m_J8_copyOfRangeByte hl a0 a1 a2) q1396 q1397 q122 q1398 n_J8_copyOfRangeByte ⟨by decide, by decide⟩ (Nat.le_of_ble_eq_true rfl) dJ8_copyOfRange_13) (zv_R fun v13 => ?_) (fun q => zx_thr x (fun z hz => (htab z hz).elim) q)
  exact z_aret (pc := 16) x hret (Or.inr ⟨_, rfl⟩) dJ8_copyOfRange_16
def s_J8_copyOfRange (E : zE) (a0 : Option Nat) (a1 : Int32) (a2 : Int32) : zM := if a1 = 0 then (zLen a0 (fun v6 => if a2 = v6 then (zCln 1 a0 (fun v18 => zCsA 1 v18 (zRet (some (va_rf v18))))) else (s_J8_copyOfRange_10 E a0 a1 a2))) else (s_J8_copyOfRange_10 E a0 a1 a2)
theorem m_J8_copyOfRange {l : Launch} {E : zE} {D : va_G} {tA : Nat → ClassId} (hl : l.stackTraces = false) (a0 : Option Nat) (a1 : Int32) (a2 : Int32) : zMet l E D tA yJ8_copyOfRange (ws_ yJ8_copyOfRange cJ8_copyOfRange 3 (Option.some (Jvm.ClassFile.FieldType.array Jvm.ClassFile.FieldType.byte))) 11 (s_J8_copyOfRange E a0 a1 a2) [zP a0, zI a1, zI a2] := by
  refine z_met hl (by decide +kernel) (by rw [zSl_len]; exact (Nat.le_of_ble_eq_true rfl)) fun p e R s m args below meth c k0 x hret hnm htab => ?_
  refine z_lv [(0, zP a0), (1, zI a1), (2, zI a2)] rfl ?_
  unfold s_J8_copyOfRange
  refine z_iload_n (pc := 0) x 1 dJ8_copyOfRange_0 rfl rfl ?_
  refine z_if_ne (pc := 1) (tgt := 10) x dJ8_copyOfRange_1 rfl (fun _ => ?_) (fun _ => ?_)
  · refine z_iload_n (pc := 4) x 2 dJ8_copyOfRange_4 rfl rfl ?_
    refine z_aload_n (pc := 5) x 0 dJ8_copyOfRange_5 rfl rfl ?_
    refine z_len (pc := 6) x dJ8_copyOfRange_6 fun v6 => ?_
    refine z_icmp_eq (pc := 7) (tgt := 17) x dJ8_copyOfRange_7 rfl (fun _ => ?_) (fun _ => ?_)
    · refine z_aload_n (pc := 17) x 0 dJ8_copyOfRange_17 rfl rfl ?_
      refine z_cln (pc := 18) x (t := 1) (ad := "[B") rfl (fun _ hc => hc) q1246 q1247 q630 q631 q1248 q1249 (by omega) (zSum (k := 0) rfl (by omega)) dJ8_copyOfRange_18 fun v18 => ?_
      refine z_csA (pc := 21) x (t := 1) rfl (fun _ hc => hc) q1250 dJ8_copyOfRange_21 ?_
      exact z_aret (pc := 24) x hret (Or.inr ⟨_, rfl⟩) dJ8_copyOfRange_24
    · exact z_sub [0, 1, 2] rfl (w_J8_copyOfRange_10 x hl hret hnm htab a0 a1 a2)
  · exact z_sub [0, 1, 2] rfl (w_J8_copyOfRange_10 x hl hret hnm htab a0 a1 a2)
/-! J7_getChar -/
def s_J7_getChar_28 (E : zE) (a0 : Option Nat) (a1 : Int32) : zM := zGaI 1 a0 (a1 <<< ((1 : Int32) &&& 31)) (fun v37 => zGaI 1 a0 ((a1 <<< ((1 : Int32) &&& 31)) + (1 : Int32)) (fun v48 => zRetN .char ((((((v37 &&& (255 : Int32)) <<< ((0 : Int32) &&& 31)) ||| ((v48 &&& (255 : Int32)) <<< ((8 : Int32) &&& 31)))).toUInt32 % 65536).toInt32)))
theorem w_J7_getChar_28 (x : zCx p l R s m args meth c E D tA cJ7_getChar 2 yJ7_getChar.cls 10) (hl : l.stackTraces = false) (hret : meth.sig.returnType = (Option.some Jvm.ClassFile.FieldType.char)) (hnm : meth.name = yJ7_getChar.name) (htab : ∀ z ∈ c.exceptionTable.toList, False) (a0 : Option Nat) (a1 : Int32) : zW p l e R s m args below meth c E D tA 2 k0 (s_J7_getChar_28 E a0 a1) [(0, zP a0), (1, zI a1)] 28 [] := by
  unfold s_J7_getChar_28
  refine z_iload_n (pc := 28) x 1 dJ7_getChar_28 rfl rfl ?_
  refine z_iconst (pc := 29) x (v := (1 : Int32)) dJ7_getChar_29 rfl ?_
  refine z_ishl (pc := 30) x dJ7_getChar_30 ?_
  refine z_istore_n (pc := 31) (lv' := [(1, zI (a1 <<< ((1 : Int32) &&& 31))), (0, zP a0)]) x dJ7_getChar_31 rfl (Nat.le_of_ble_eq_true rfl) rfl ?_
  refine z_aload_n (pc := 32) x 1 dJ7_getChar_32 rfl rfl ?_
  refine z_iload_n (pc := 33) x 0 dJ7_getChar_33 rfl rfl ?_
  refine z_iinc (pc := 34) (lv' := [(1, zI ((a1 <<< ((1 : Int32) &&& 31)) + (1 : Int32))), (0, zP a0)]) x (v2 := ((a1 <<< ((1 : Int32) &&& 31)) + (1 : Int32))) 0 dJ7_getChar_34 rfl rfl (Nat.le_of_ble_eq_true rfl) rfl ?_
  refine z_bald (pc := 37) x (t := 1) rfl dJ7_getChar_37 fun v37 => ?_
  refine z_sipush (pc := 38) x (v := (255 : Int32)) dJ7_getChar_38 rfl ?_
  refine z_iand (pc := 41) x dJ7_getChar_41 ?_
  refine z_staI (pc := 42) x (v := (0 : Int32)) (by decide) q1278 dJ7_getChar_42 ?_
  refine z_ishl (pc := 45) x dJ7_getChar_45 ?_
  refine z_aload_n (pc := 46) x 1 dJ7_getChar_46 rfl rfl ?_
  refine z_iload_n (pc := 47) x 0 dJ7_getChar_47 rfl rfl ?_
  refine z_bald (pc := 48) x (t := 1) rfl dJ7_getChar_48 fun v48 => ?_
  refine z_sipush (pc := 49) x (v := (255 : Int32)) dJ7_getChar_49 rfl ?_
  refine z_iand (pc := 52) x dJ7_getChar_52 ?_
  refine z_staI (pc := 53) x (v := (8 : Int32)) (by decide) q1280 dJ7_getChar_53 ?_
  refine z_ishl (pc := 56) x dJ7_getChar_56 ?_
  refine z_ior (pc := 57) x dJ7_getChar_57 ?_
  refine z_i2c (pc := 58) x dJ7_getChar_58 ?_
  exact z_zret (pc := 59) x hret dJ7_getChar_59
def s_J7_getChar (E : zE) (a0 : Option Nat) (a1 : Int32) : zM := if (1 : Int32) = 0 then (if a1 < 0 then zFail else (zC (s_J7_length E a0) zThr (zKI (fun v12 => if a1 < v12 then (s_J7_getChar_28 E a0 a1) else zFail)))) else (s_J7_getChar_28 E a0 a1)
theorem m_J7_getChar {l : Launch} {E : zE} {D : va_G} {tA : Nat → ClassId} (hl : l.stackTraces = false) (a0 : Option Nat) (a1 : Int32) : zMet l E D tA yJ7_getChar (ws_ yJ7_getChar cJ7_getChar 2 (Option.some Jvm.ClassFile.FieldType.char)) 10 (s_J7_getChar E a0 a1) [zP a0, zI a1] := by
  refine z_met hl (by decide +kernel) (by rw [zSl_len]; exact (Nat.le_of_ble_eq_true rfl)) fun p e R s m args below meth c k0 x hret hnm htab => ?_
  refine z_lv [(0, zP a0), (1, zI a1)] rfl ?_
  unfold s_J7_getChar
  refine z_staI (pc := 0) x (v := (1 : Int32)) (by decide) q1276 dJ7_getChar_0 ?_
  refine z_if_ne (pc := 3) (tgt := 28) x dJ7_getChar_3 rfl (fun _ => ?_) (fun _ => ?_)
  · refine z_iload_n (pc := 6) x 1 dJ7_getChar_6 rfl rfl ?_
    refine z_if_lt (pc := 7) (tgt := 18) x dJ7_getChar_7 rfl (fun _ => ?_) (fun _ => ?_)
    · exact z_fail
    · refine z_iload_n (pc := 10) x 1 dJ7_getChar_10 rfl rfl ?_
      refine z_aload_n (pc := 11) x 0 dJ7_getChar_11 rfl rfl ?_
      refine z_call (pc := 12) (z_canS (pc := 12) (As := [zP a0]) (st := [zI a1]) x (m_J7_length hl a0) q1262 q1263 q120 q1264 n_J7_length ⟨by decide, by decide⟩ (Nat.le_of_ble_eq_true rfl) dJ7_getChar_12) (zv_I fun v12 => ?_) (fun q => zx_thr x (fun z hz => (htab z hz).elim) q)
      refine z_icmp_lt (pc := 15) (tgt := 28) x dJ7_getChar_15 rfl (fun _ => ?_) (fun _ => ?_)
      · exact z_sub [0, 1] rfl (w_J7_getChar_28 x hl hret hnm htab a0 a1)
      · exact z_fail
  · exact z_sub [0, 1] rfl (w_J7_getChar_28 x hl hret hnm htab a0 a1)
/-! J7_compress_2 -/
def s_J7_compress_2_10 (E : zE) : Nat → Option Nat → Int32 → Option Nat → Int32 → Int32 → Int32 → zM
  | 0, _, _, _, _, _, _ => zFail
  | n + 1, a0, a1, a2, a3, a4, a5 => if a4 ≤ a5 then (zRet (some (.int a4))) else (zC (s_J7_getChar E a0 a1) zThr (zKI (fun v19 => if v19 ≤ (255 : Int32) then (zSaI E 1 a2 a3 (vp_nar .byte ((v19).toInt8.toInt32)) ((s_J7_compress_2_10 E n) a0 (a1 + (1 : Int32)) a2 (a3 + (1 : Int32)) a4 (a5 + (1 : Int32)))) else (zRet (some (.int a5))))))
theorem w_J7_compress_2_10 (x : zCx p l R s m args meth c E D tA cJ7_compress_2 7 yJ7_compress_2.cls 12) (hl : l.stackTraces = false) (hret : meth.sig.returnType = (Option.some Jvm.ClassFile.FieldType.int)) (hnm : meth.name = yJ7_compress_2.name) (htab : ∀ z ∈ c.exceptionTable.toList, False) : ∀ (n : Nat) (a0 : Option Nat) (a1 : Int32) (a2 : Option Nat) (a3 : Int32) (a4 : Int32) (a5 : Int32), zW p l e R s m args below meth c E D tA 7 k0 (s_J7_compress_2_10 E n a0 a1 a2 a3 a4 a5) [(0, zP a0), (1, zI a1), (2, zP a2), (3, zI a3), (4, zI a4), (5, zI a5)] 10 [] := by
  intro n
  induction n with
  | zero => intro a0 a1 a2 a3 a4 a5; exact z_fail
  | succ n h10 =>
    intro a0 a1 a2 a3 a4 a5
    rw [s_J7_compress_2_10]
    refine z_iload (pc := 10) x 5 dJ7_compress_2_10 rfl ?_
    refine z_iload (pc := 12) x 4 dJ7_compress_2_12 rfl ?_
    refine z_icmp_ge (pc := 14) (tgt := 53) x dJ7_compress_2_14 rfl (fun _ => ?_) (fun _ => ?_)
    · refine z_iload (pc := 53) x 4 dJ7_compress_2_53 rfl ?_
      exact z_iret (pc := 55) x hret dJ7_compress_2_55
    · refine z_aload_n (pc := 17) x 0 dJ7_compress_2_17 rfl rfl ?_
      refine z_iload_n (pc := 18) x 1 dJ7_compress_2_18 rfl rfl ?_
      refine z_call (pc := 19) (z_canS (pc := 19) (As := [zP a0, zI a1]) (st := []) x (m_J7_getChar hl a0 a1) q1429 q1430 q120 q1431 n_J7_getChar ⟨by decide, by decide⟩ (Nat.le_of_ble_eq_true rfl) dJ7_compress_2_19) (zv_I fun v19 => ?_) (fun q => zx_thr x (fun z hz => (htab z hz).elim) q)
      refine z_istore (pc := 22) (lv' := [(6, zI v19), (0, zP a0), (1, zI a1), (2, zP a2), (3, zI a3), (4, zI a4), (5, zI a5)]) x dJ7_compress_2_22 (Nat.le_of_ble_eq_true rfl) rfl ?_
      refine z_iload (pc := 24) x 0 dJ7_compress_2_24 rfl ?_
      refine z_sipush (pc := 26) x (v := (255 : Int32)) dJ7_compress_2_26 rfl ?_
      refine z_icmp_le (pc := 29) (tgt := 35) x dJ7_compress_2_29 rfl (fun _ => ?_) (fun _ => ?_)
      · refine z_aload_n (pc := 35) x 3 dJ7_compress_2_35 rfl rfl ?_
        refine z_iload_n (pc := 36) x 4 dJ7_compress_2_36 rfl rfl ?_
        refine z_iload (pc := 37) x 0 dJ7_compress_2_37 rfl ?_
        refine z_i2b (pc := 39) x dJ7_compress_2_39 ?_
        refine z_bast (pc := 40) x (t := 1) rfl dJ7_compress_2_40 ?_
        refine z_iinc (pc := 41) (lv' := [(1, zI (a1 + (1 : Int32))), (6, zI v19), (0, zP a0), (2, zP a2), (3, zI a3), (4, zI a4), (5, zI a5)]) x (v2 := (a1 + (1 : Int32))) 2 dJ7_compress_2_41 rfl rfl (Nat.le_of_ble_eq_true rfl) rfl ?_
        refine z_iinc (pc := 44) (lv' := [(3, zI (a3 + (1 : Int32))), (1, zI (a1 + (1 : Int32))), (6, zI v19), (0, zP a0), (2, zP a2), (4, zI a4), (5, zI a5)]) x (v2 := (a3 + (1 : Int32))) 4 dJ7_compress_2_44 rfl rfl (Nat.le_of_ble_eq_true rfl) rfl ?_
        refine z_iinc (pc := 47) (lv' := [(5, zI (a5 + (1 : Int32))), (3, zI (a3 + (1 : Int32))), (1, zI (a1 + (1 : Int32))), (6, zI v19), (0, zP a0), (2, zP a2), (4, zI a4)]) x (v2 := (a5 + (1 : Int32))) 6 dJ7_compress_2_47 rfl rfl (Nat.le_of_ble_eq_true rfl) rfl ?_
        refine z_goto (pc := 50) (tgt := 10) x dJ7_compress_2_50 rfl ?_
        exact z_sub [4, 2, 5, 1, 6, 0] rfl (h10 a0 (a1 + (1 : Int32)) a2 (a3 + (1 : Int32)) a4 (a5 + (1 : Int32)))
      · refine z_iload (pc := 32) x 6 dJ7_compress_2_32 rfl ?_
        exact z_iret (pc := 34) x hret dJ7_compress_2_34
def s_J7_compress_2 (E : zE) (a0 : Option Nat) (a1 : Int32) (a2 : Option Nat) (a3 : Int32) (a4 : Int32) : zM := zC (s_J7_checkBoundsOffCount E a1 a4 a0) zThr (zKV (s_J7_compress_2_10 E zN a0 a1 a2 a3 a4 (0 : Int32)))
theorem m_J7_compress_2 {l : Launch} {E : zE} {D : va_G} {tA : Nat → ClassId} (hl : l.stackTraces = false) (a0 : Option Nat) (a1 : Int32) (a2 : Option Nat) (a3 : Int32) (a4 : Int32) : zMet l E D tA yJ7_compress_2 (ws_ yJ7_compress_2 cJ7_compress_2 7 (Option.some Jvm.ClassFile.FieldType.int)) 12 (s_J7_compress_2 E a0 a1 a2 a3 a4) [zP a0, zI a1, zP a2, zI a3, zI a4] := by
  refine z_met hl (by decide +kernel) (by rw [zSl_len]; exact (Nat.le_of_ble_eq_true rfl)) fun p e R s m args below meth c k0 x hret hnm htab => ?_
  refine z_lv [(0, zP a0), (1, zI a1), (2, zP a2), (3, zI a3), (4, zI a4)] rfl ?_
  unfold s_J7_compress_2
  refine z_iload_n (pc := 0) x 1 dJ7_compress_2_0 rfl rfl ?_
  refine z_iload (pc := 1) x 4 dJ7_compress_2_1 rfl ?_
  refine z_aload_n (pc := 3) x 0 dJ7_compress_2_3 rfl rfl ?_
  refine z_call (pc := 4) (z_canS (pc := 4) (As := [zI a1, zI a4, zP a0]) (st := []) x (m_J7_checkBoundsOffCount hl a1 a4 a0) q1310 q1311 q120 q1312 n_J7_checkBoundsOffCount ⟨by decide, by decide⟩ (Nat.le_of_ble_eq_true rfl) dJ7_compress_2_4) (zv_V ?_) (fun q => zx_thr x (fun z hz => (htab z hz).elim) q)
  refine z_iconst (pc := 7) x (v := (0 : Int32)) dJ7_compress_2_7 rfl ?_
  refine z_istore (pc := 8) (lv' := [(5, zI (0 : Int32)), (0, zP a0), (1, zI a1), (2, zP a2), (3, zI a3), (4, zI a4)]) x dJ7_compress_2_8 (Nat.le_of_ble_eq_true rfl) rfl ?_
  exact z_sub [1, 2, 3, 4, 5, 0] rfl (w_J7_compress_2_10 x hl hret hnm htab zN a0 a1 a2 a3 a4 (0 : Int32))
/-! J7_compress -/
def s_J7_compress (E : zE) (a0 : Option Nat) (a1 : Int32) (a2 : Int32) : zM := zNewA 1 zAr0 a2 (fun v1 => zC (s_J7_compress_2 E a0 a1 v1 (0 : Int32) a2) zThr (zKI (fun v9 => if v9 = a2 then (zRet (some (va_rf v1))) else (zC (s_J7_newBytesLength E (a1 + a2)) zThr (zKI (fun v27 => zC (s_J8_copyOfRange E a0 (a1 <<< ((1 : Int32) &&& 31)) v27) zThr (zKR (fun v30 => zC (s_J7_getChar E v30 v9) zThr (zKI (fun v39 => if (255 : Int32) < v39 then (zRet (some (va_rf v30))) else (zC (s_J7_compress_2 E v30 (0 : Int32) v1 (0 : Int32) a2) zThr (zKI (fun v54 => if v54 = a2 then (zRet (some (va_rf v1))) else (zRet (some (va_rf v30))))))))))))))))
theorem m_J7_compress {l : Launch} {E : zE} {D : va_G} {tA : Nat → ClassId} (hl : l.stackTraces = false) (a0 : Option Nat) (a1 : Int32) (a2 : Int32) : zMet l E D tA yJ7_compress (ws_ yJ7_compress cJ7_compress 6 (Option.some (Jvm.ClassFile.FieldType.array Jvm.ClassFile.FieldType.byte))) 13 (s_J7_compress E a0 a1 a2) [zP a0, zI a1, zI a2] := by
  refine z_met hl (by decide +kernel) (by rw [zSl_len]; exact (Nat.le_of_ble_eq_true rfl)) fun p e R s m args below meth c k0 x hret hnm htab => ?_
  refine z_lv [(0, zP a0), (1, zI a1), (2, zI a2)] rfl ?_
  unfold s_J7_compress
  refine z_iload_n (pc := 0) x 2 dJ7_compress_0 rfl rfl ?_
  refine z_newA (pc := 1) x (ty := .byte) rfl (by decide) rfl q318 (fun _ _ => rfl) dJ7_compress_1 fun v1 => ?_
  refine z_astore_n (pc := 3) (lv' := [(3, zP v1), (0, zP a0), (1, zI a1), (2, zI a2)]) x dJ7_compress_3 rfl (Nat.le_of_ble_eq_true rfl) rfl ?_
  refine z_aload_n (pc := 4) x 1 dJ7_compress_4 rfl rfl ?_
  refine z_iload_n (pc := 5) x 2 dJ7_compress_5 rfl rfl ?_
  refine z_aload_n (pc := 6) x 0 dJ7_compress_6 rfl rfl ?_
  refine z_iconst (pc := 7) x (v := (0 : Int32)) dJ7_compress_7 rfl ?_
  refine z_iload_n (pc := 8) x 3 dJ7_compress_8 rfl rfl ?_
  refine z_call (pc := 9) (z_canS (pc := 9) (As := [zP a0, zI a1, zP v1, zI (0 : Int32), zI a2]) (st := []) x (m_J7_compress_2 hl a0 a1 v1 (0 : Int32) a2) q1426 q1427 q120 q1428 n_J7_compress_2 ⟨by decide, by decide⟩ (Nat.le_of_ble_eq_true rfl) dJ7_compress_9) (zv_I fun v9 => ?_) (fun q => zx_thr x (fun z hz => (htab z hz).elim) q)
  refine z_istore (pc := 12) (lv' := [(4, zI v9), (3, zP v1), (0, zP a0), (1, zI a1), (2, zI a2)]) x dJ7_compress_12 (Nat.le_of_ble_eq_true rfl) rfl ?_
  refine z_iload (pc := 14) x 0 dJ7_compress_14 rfl ?_
  refine z_iload_n (pc := 16) x 4 dJ7_compress_16 rfl rfl ?_
  refine z_icmp_eq (pc := 17) (tgt := 64) x dJ7_compress_17 rfl (fun _ => ?_) (fun _ => ?_)
  · refine z_aload_n (pc := 64) x 1 dJ7_compress_64 rfl rfl ?_
    exact z_aret (pc := 65) x hret (Or.inr ⟨_, rfl⟩) dJ7_compress_65
  · refine z_aload_n (pc := 20) x 2 dJ7_compress_20 rfl rfl ?_
    refine z_iload_n (pc := 21) x 3 dJ7_compress_21 rfl rfl ?_
    refine z_iconst (pc := 22) x (v := (1 : Int32)) dJ7_compress_22 rfl ?_
    refine z_ishl (pc := 23) x dJ7_compress_23 ?_
    refine z_iload_n (pc := 24) x 3 dJ7_compress_24 rfl rfl ?_
    refine z_iload_n (pc := 25) x 4 dJ7_compress_25 rfl rfl ?_
    refine z_iadd (pc := 26) x dJ7_compress_26 ?_
    refine z_call (pc := 27) (z_canS (pc := 27) (As := [zI (a1 + a2)]) (st := [zI (a1 <<< ((1 : Int32) &&& 31)), zP a0]) x (m_J7_newBytesLength hl (a1 + a2)) q300 q301 q120 q302 n_J7_newBytesLength ⟨by decide, by decide⟩ (Nat.le_of_ble_eq_true rfl) dJ7_compress_27) (zv_I fun v27 => ?_) (fun q => zx_thr x (fun z hz => (htab z hz).elim) q)
    refine z_call (pc := 30) (z_canS (pc := 30) (As := [zP a0, zI (a1 <<< ((1 : Int32) &&& 31)), zI v27]) (st := []) x (m_J8_copyOfRange hl a0 (a1 <<< ((1 : Int32) &&& 31)) v27) q1432 q1394 q122 q1395 n_J8_copyOfRange ⟨by decide, by decide⟩ (Nat.le_of_ble_eq_true rfl) dJ7_compress_30) (zv_R fun v30 => ?_) (fun q => zx_thr x (fun z hz => (htab z hz).elim) q)
    refine z_astore (pc := 33) (lv' := [(5, zP v30), (4, zI v9), (3, zP v1), (0, zP a0), (1, zI a1), (2, zI a2)]) x dJ7_compress_33 (Nat.le_of_ble_eq_true rfl) rfl ?_
    refine z_aload (pc := 35) x 0 dJ7_compress_35 rfl ?_
    refine z_iload (pc := 37) x 1 dJ7_compress_37 rfl ?_
    refine z_call (pc := 39) (z_canS (pc := 39) (As := [zP v30, zI v9]) (st := []) x (m_J7_getChar hl v30 v9) q1429 q1430 q120 q1431 n_J7_getChar ⟨by decide, by decide⟩ (Nat.le_of_ble_eq_true rfl) dJ7_compress_39) (zv_I fun v39 => ?_) (fun q => zx_thr x (fun z hz => (htab z hz).elim) q)
    refine z_sipush (pc := 42) x (v := (255 : Int32)) dJ7_compress_42 rfl ?_
    refine z_icmp_gt (pc := 45) (tgt := 61) x dJ7_compress_45 rfl (fun _ => ?_) (fun _ => ?_)
    · refine z_aload (pc := 61) x 0 dJ7_compress_61 rfl ?_
      exact z_aret (pc := 63) x hret (Or.inr ⟨_, rfl⟩) dJ7_compress_63
    · refine z_aload (pc := 48) x 0 dJ7_compress_48 rfl ?_
      refine z_iconst (pc := 50) x (v := (0 : Int32)) dJ7_compress_50 rfl ?_
      refine z_aload_n (pc := 51) x 2 dJ7_compress_51 rfl rfl ?_
      refine z_iconst (pc := 52) x (v := (0 : Int32)) dJ7_compress_52 rfl ?_
      refine z_iload_n (pc := 53) x 5 dJ7_compress_53 rfl rfl ?_
      refine z_call (pc := 54) (z_canS (pc := 54) (As := [zP v30, zI (0 : Int32), zP v1, zI (0 : Int32), zI a2]) (st := []) x (m_J7_compress_2 hl v30 (0 : Int32) v1 (0 : Int32) a2) q1426 q1427 q120 q1428 n_J7_compress_2 ⟨by decide, by decide⟩ (Nat.le_of_ble_eq_true rfl) dJ7_compress_54) (zv_I fun v54 => ?_) (fun q => zx_thr x (fun z hz => (htab z hz).elim) q)
      refine z_iload_n (pc := 57) x 5 dJ7_compress_57 rfl rfl ?_
      refine z_icmp_eq (pc := 58) (tgt := 64) x dJ7_compress_58 rfl (fun _ => ?_) (fun _ => ?_)
      · refine z_aload_n (pc := 64) x 2 dJ7_compress_64 rfl rfl ?_
        exact z_aret (pc := 65) x hret (Or.inr ⟨_, rfl⟩) dJ7_compress_65
      · refine z_aload (pc := 61) x 0 dJ7_compress_61 rfl ?_
        exact z_aret (pc := 63) x hret (Or.inr ⟨_, rfl⟩) dJ7_compress_63
/-! J7_coderFromArrayLen -/
def s_J7_coderFromArrayLen (E : zE) (a0 : Option Nat) (a1 : Int32) : zM := zLen a0 (fun v2 => zRetN .byte ((((((a1 - v2)).toUInt32 >>> (((31 : Int32)).toUInt32 &&& Int32.toUInt32 31)).toInt32)).toInt8.toInt32))
theorem m_J7_coderFromArrayLen {l : Launch} {E : zE} {D : va_G} {tA : Nat → ClassId} (hl : l.stackTraces = false) (a0 : Option Nat) (a1 : Int32) : zMet l E D tA yJ7_coderFromArrayLen (ws_ yJ7_coderFromArrayLen cJ7_coderFromArrayLen 2 (Option.some Jvm.ClassFile.FieldType.byte)) 9 (s_J7_coderFromArrayLen E a0 a1) [zP a0, zI a1] := by
  refine z_met hl (by decide +kernel) (by rw [zSl_len]; exact (Nat.le_of_ble_eq_true rfl)) fun p e R s m args below meth c k0 x hret hnm htab => ?_
  refine z_lv [(0, zP a0), (1, zI a1)] rfl ?_
  unfold s_J7_coderFromArrayLen
  refine z_iload_n (pc := 0) x 1 dJ7_coderFromArrayLen_0 rfl rfl ?_
  refine z_aload_n (pc := 1) x 0 dJ7_coderFromArrayLen_1 rfl rfl ?_
  refine z_len (pc := 2) x dJ7_coderFromArrayLen_2 fun v2 => ?_
  refine z_isub (pc := 3) x dJ7_coderFromArrayLen_3 ?_
  refine z_bipush (pc := 4) x (v := (31 : Int32)) dJ7_coderFromArrayLen_4 rfl ?_
  refine z_iushr (pc := 6) x dJ7_coderFromArrayLen_6 ?_
  refine z_i2b (pc := 7) x dJ7_coderFromArrayLen_7 ?_
  exact z_zret (pc := 8) x hret dJ7_coderFromArrayLen_8
/-! J6_init_2 -/
def s_J6_init_2_79 (E : zE) (a0 : Option Nat) (a3 : Option Nat) (a4 : Int32) : zM := zSetN E .byte a0 15 1 (1 : Int32) (zC (s_J8_copyOfRange E a3 (0 : Int32) (a4 <<< ((1 : Int32) &&& 31))) zThr (zKR (fun v91 => zSet E a0 15 0 (zVal (zP v91)) (zRet none))))
theorem w_J6_init_2_79 (x : zCx p l R s m args meth c E D tA cJ6_init_2 5 yJ6_init_2.cls 14) (hl : l.stackTraces = false) (hret : meth.sig.returnType = (Option.none : Option Jvm.ClassFile.FieldType)) (hnm : meth.name = yJ6_init_2.name) (htab : ∀ z ∈ c.exceptionTable.toList, False) (a0 : Option Nat) (a3 : Option Nat) (a4 : Int32) : zW p l e R s m args below meth c E D tA 5 k0 (s_J6_init_2_79 E a0 a3 a4) [(0, zP a0), (3, zP a3), (4, zI a4)] 79 [] := by
  unfold s_J6_init_2_79
  refine z_aload_n (pc := 79) x 0 dJ6_init_2_79 rfl rfl ?_
  refine z_iconst (pc := 80) x (v := (1 : Int32)) dJ6_init_2_80 rfl ?_
  refine z_set_small fun hn hf => ?_
  refine z_setF (pc := 81) (v := zI (1 : Int32)) x in_J6 tyJ6 tyJ6_ok nmJ6 (ci := 15) rfl (k := 1) (by decide) q1437 (fun _ h => h) rfl hnm rfl hn hf dJ6_init_2_81 ?_
  refine z_aload_n (pc := 84) x 0 dJ6_init_2_84 rfl rfl ?_
  refine z_aload_n (pc := 85) x 1 dJ6_init_2_85 rfl rfl ?_
  refine z_iconst (pc := 86) x (v := (0 : Int32)) dJ6_init_2_86 rfl ?_
  refine z_iload (pc := 87) x 2 dJ6_init_2_87 rfl ?_
  refine z_iconst (pc := 89) x (v := (1 : Int32)) dJ6_init_2_89 rfl ?_
  refine z_ishl (pc := 90) x dJ6_init_2_90 ?_
  refine z_call (pc := 91) (z_canS (pc := 91) (As := [zP a3, zI (0 : Int32), zI (a4 <<< ((1 : Int32) &&& 31))]) (st := [zP a0]) x (m_J8_copyOfRange hl a3 (0 : Int32) (a4 <<< ((1 : Int32) &&& 31))) q1393 q1394 q122 q1395 n_J8_copyOfRange ⟨by decide, by decide⟩ (Nat.le_of_ble_eq_true rfl) dJ6_init_2_91) (zv_R fun v91 => ?_) (fun q => zx_thr x (fun z hz => (htab z hz).elim) q)
  refine z_setF (pc := 94) (v := zP v91) x in_J6 tyJ6 tyJ6_ok nmJ6 (ci := 15) rfl (k := 0) (by decide) q1436 (fun _ h => h) rfl hnm rfl (zfitR rfl _).1 (zfitR rfl _).2 dJ6_init_2_94 ?_
  exact z_vret (pc := 97) x hret dJ6_init_2_97
def s_J6_init_2 (E : zE) (a0 : Option Nat) (a1 : Option Nat) (a2 : Option Nat) : zM := zSp a0 (fun _ => zC (zRv a1 [(14, fun b => s_J4_getValue E (some b))]) zThr (zKR (fun v5 => zC (zRv a1 [(14, fun b => s_J5_length E (some b))]) zThr (zKI (fun v10 => zC (zRv a1 [(14, fun b => s_J4_isLatin1 E (some b))]) zThr (zKI (fun v16 => if v16 = 0 then (if (1 : Int32) = 0 then (s_J6_init_2_79 E a0 v5 v10) else (zGetI a1 14 2 (fun v48 => if v48 = 0 then (s_J6_init_2_79 E a0 v5 v10) else (zC (s_J7_compress E v5 (0 : Int32) v10) zThr (zKR (fun v59 => zSet E a0 15 0 (zVal (zP v59)) (zGetR a0 15 0 (fun v67 => zC (s_J7_coderFromArrayLen E v67 v10) zThr (zKI (fun v72 => zSetN E .byte a0 15 1 v72 (zRet none))))))))))) else (zSetN E .byte a0 15 1 (0 : Int32) (zC (s_J8_copyOfRange E v5 (0 : Int32) v10) zThr (zKR (fun v32 => zSet E a0 15 0 (zVal (zP v32)) (zRet none))))))))))))
theorem m_J6_init_2 {l : Launch} {E : zE} {D : va_G} {tA : Nat → ClassId} (hl : l.stackTraces = false) (a0 : Option Nat) (a1 : Option Nat) (a2 : Option Nat) : zMet l E D tA yJ6_init_2 (ws_ yJ6_init_2 cJ6_init_2 5 (Option.none : Option Jvm.ClassFile.FieldType)) 14 (s_J6_init_2 E a0 a1 a2) [zP a0, zP a1, zP a2] := by
  refine z_met hl (by decide +kernel) (by rw [zSl_len]; exact (Nat.le_of_ble_eq_true rfl)) fun p e R s m args below meth c k0 x hret hnm htab => ?_
  refine z_lv [(0, zP a0), (1, zP a1), (2, zP a2)] rfl ?_
  unfold s_J6_init_2
  refine z_aload_n (pc := 0) x 0 dJ6_init_2_0 rfl rfl ?_
  refine z_objInit (pc := 1) x q1385 q173 q174 (by omega) (zSum (k := 0) rfl (by omega)) dJ6_init_2_1 ?_
  refine z_aload_n (pc := 4) x 1 dJ6_init_2_4 rfl rfl ?_
  refine z_call (pc := 5) (z_canV (pc := 5) (As := []) (st := []) x (ci := 14) rfl (fun b => m_J4_getValue hl (some b)) q1386 q1387 (x.2.2.2.2.1 _ q1389) q117 q1390 n_J4_getValue ⟨by decide, by decide⟩ (Nat.le_of_ble_eq_true rfl) dJ6_init_2_5) (zv_R fun v5 => ?_) (fun q => zx_thr x (fun z hz => (htab z hz).elim) q)
  refine z_astore_n (pc := 8) (lv' := [(3, zP v5), (0, zP a0), (1, zP a1), (2, zP a2)]) x dJ6_init_2_8 rfl (Nat.le_of_ble_eq_true rfl) rfl ?_
  refine z_aload_n (pc := 9) x 2 dJ6_init_2_9 rfl rfl ?_
  refine z_call (pc := 10) (z_canVU (pc := 10) (As := []) (st := []) (x9 := ⟨"java/lang/AbstractStringBuilder", "length", "()I"⟩) (owner := "java/lang/AbstractStringBuilder") x (ci := 14) rfl (fun b => m_J5_length hl (some b)) q1391 q3349 (zDecl_of x q1218 q1219) (by decide) q1214 q3359 q118 q1216 nx_java_lang_AbstractStringBuilder_length___I ⟨by decide, by decide⟩ (Nat.le_of_ble_eq_true rfl) dJ6_init_2_10) (zv_I fun v10 => ?_) (fun q => zx_thr x (fun z hz => (htab z hz).elim) q)
  refine z_istore (pc := 13) (lv' := [(4, zI v10), (3, zP v5), (0, zP a0), (1, zP a1), (2, zP a2)]) x dJ6_init_2_13 (Nat.le_of_ble_eq_true rfl) rfl ?_
  refine z_aload_n (pc := 15) x 3 dJ6_init_2_15 rfl rfl ?_
  refine z_call (pc := 16) (z_canV (pc := 16) (As := []) (st := []) x (ci := 14) rfl (fun b => m_J4_isLatin1 hl (some b)) q1392 q1252 (x.2.2.2.2.1 _ q1254) q117 q1255 n_J4_isLatin1 ⟨by decide, by decide⟩ (Nat.le_of_ble_eq_true rfl) dJ6_init_2_16) (zv_I fun v16 => ?_) (fun q => zx_thr x (fun z hz => (htab z hz).elim) q)
  refine z_if_eq (pc := 19) (tgt := 41) x dJ6_init_2_19 rfl (fun _ => ?_) (fun _ => ?_)
  · refine z_staI (pc := 41) x (v := (1 : Int32)) (by decide) q1290 dJ6_init_2_41 ?_
    refine z_if_eq (pc := 44) (tgt := 79) x dJ6_init_2_44 rfl (fun _ => ?_) (fun _ => ?_)
    · exact z_sub [2, 1, 0] rfl (w_J6_init_2_79 x hl hret hnm htab a0 v5 v10)
    · refine z_aload_n (pc := 47) x 3 dJ6_init_2_47 rfl rfl ?_
      refine z_get (pc := 48) (fun _ _ h => zAsI_eq h) x in_J5 (ci := 14) rfl (k := 2) (by decide) q307 (fun _ h => h) dJ6_init_2_48 fun v48 => ?_
      refine z_if_eq (pc := 51) (tgt := 79) x dJ6_init_2_51 rfl (fun _ => ?_) (fun _ => ?_)
      · exact z_sub [2, 1, 0] rfl (w_J6_init_2_79 x hl hret hnm htab a0 v5 v10)
      · refine z_aload_n (pc := 54) x 2 dJ6_init_2_54 rfl rfl ?_
        refine z_aload_n (pc := 55) x 1 dJ6_init_2_55 rfl rfl ?_
        refine z_iconst (pc := 56) x (v := (0 : Int32)) dJ6_init_2_56 rfl ?_
        refine z_iload (pc := 57) x 0 dJ6_init_2_57 rfl ?_
        refine z_call (pc := 59) (z_canS (pc := 59) (As := [zP v5, zI (0 : Int32), zI v10]) (st := [zP a0]) x (m_J7_compress hl v5 (0 : Int32) v10) q1423 q1424 q120 q1425 n_J7_compress ⟨by decide, by decide⟩ (Nat.le_of_ble_eq_true rfl) dJ6_init_2_59) (zv_R fun v59 => ?_) (fun q => zx_thr x (fun z hz => (htab z hz).elim) q)
        refine z_setF (pc := 62) (v := zP v59) x in_J6 tyJ6 tyJ6_ok nmJ6 (ci := 15) rfl (k := 0) (by decide) q1436 (fun _ h => h) rfl hnm rfl (zfitR rfl _).1 (zfitR rfl _).2 dJ6_init_2_62 ?_
        refine z_aload_n (pc := 65) x 2 dJ6_init_2_65 rfl rfl ?_
        refine z_aload_n (pc := 66) x 2 dJ6_init_2_66 rfl rfl ?_
        refine z_get (pc := 67) (fun _ _ h => zAsR_eq h) x in_J6 (ci := 15) rfl (k := 0) (by decide) q1436 (fun _ h => h) dJ6_init_2_67 fun v67 => ?_
        refine z_iload (pc := 70) x 0 dJ6_init_2_70 rfl ?_
        refine z_call (pc := 72) (z_canS (pc := 72) (As := [zP v67, zI v10]) (st := [zP a0]) x (m_J7_coderFromArrayLen hl v67 v10) q1433 q1434 q120 q1435 n_J7_coderFromArrayLen ⟨by decide, by decide⟩ (Nat.le_of_ble_eq_true rfl) dJ6_init_2_72) (zv_I fun v72 => ?_) (fun q => zx_thr x (fun z hz => (htab z hz).elim) q)
        refine z_set_small fun hn hf => ?_
        refine z_setF (pc := 75) (v := zI v72) x in_J6 tyJ6 tyJ6_ok nmJ6 (ci := 15) rfl (k := 1) (by decide) q1437 (fun _ h => h) rfl hnm rfl hn hf dJ6_init_2_75 ?_
        exact z_vret (pc := 78) x hret dJ6_init_2_78
  · refine z_aload_n (pc := 22) x 2 dJ6_init_2_22 rfl rfl ?_
    refine z_iconst (pc := 23) x (v := (0 : Int32)) dJ6_init_2_23 rfl ?_
    refine z_set_small fun hn hf => ?_
    refine z_setF (pc := 24) (v := zI (0 : Int32)) x in_J6 tyJ6 tyJ6_ok nmJ6 (ci := 15) rfl (k := 1) (by decide) q1437 (fun _ h => h) rfl hnm rfl hn hf dJ6_init_2_24 ?_
    refine z_aload_n (pc := 27) x 2 dJ6_init_2_27 rfl rfl ?_
    refine z_aload_n (pc := 28) x 1 dJ6_init_2_28 rfl rfl ?_
    refine z_iconst (pc := 29) x (v := (0 : Int32)) dJ6_init_2_29 rfl ?_
    refine z_iload (pc := 30) x 0 dJ6_init_2_30 rfl ?_
    refine z_call (pc := 32) (z_canS (pc := 32) (As := [zP v5, zI (0 : Int32), zI v10]) (st := [zP a0]) x (m_J8_copyOfRange hl v5 (0 : Int32) v10) q1393 q1394 q122 q1395 n_J8_copyOfRange ⟨by decide, by decide⟩ (Nat.le_of_ble_eq_true rfl) dJ6_init_2_32) (zv_R fun v32 => ?_) (fun q => zx_thr x (fun z hz => (htab z hz).elim) q)
    refine z_setF (pc := 35) (v := zP v32) x in_J6 tyJ6 tyJ6_ok nmJ6 (ci := 15) rfl (k := 0) (by decide) q1436 (fun _ h => h) rfl hnm rfl (zfitR rfl _).1 (zfitR rfl _).2 dJ6_init_2_35 ?_
    refine z_goto (pc := 38) (tgt := 97) x dJ6_init_2_38 rfl ?_
    exact z_vret (pc := 97) x hret dJ6_init_2_97
/-! J6_init -/
def s_J6_init (E : zE) (a0 : Option Nat) (a1 : Option Nat) : zM := zC (zSp a0 (fun b => s_J6_init_2 E (some b) a1 none)) zThr (zKV (zRet none))
theorem m_J6_init {l : Launch} {E : zE} {D : va_G} {tA : Nat → ClassId} (hl : l.stackTraces = false) (a0 : Option Nat) (a1 : Option Nat) : zMet l E D tA yJ6_init (ws_ yJ6_init cJ6_init 2 (Option.none : Option Jvm.ClassFile.FieldType)) 15 (s_J6_init E a0 a1) [zP a0, zP a1] := by
  refine z_met hl (by decide +kernel) (by rw [zSl_len]; exact (Nat.le_of_ble_eq_true rfl)) fun p e R s m args below meth c k0 x hret hnm htab => ?_
  refine z_lv [(0, zP a0), (1, zP a1)] rfl ?_
  unfold s_J6_init
  refine z_aload_n (pc := 0) x 0 dJ6_init_0 rfl rfl ?_
  refine z_aload_n (pc := 1) x 1 dJ6_init_1 rfl rfl ?_
  refine z_null (pc := 2) x dJ6_init_2 ?_
  refine z_call (pc := 3) (z_canI (pc := 3) (ret := none) (As := [zP a1, zP none]) (st := []) x (fun b => m_J6_init_2 hl (some b) a1 none) q1382 rfl q1383 q119 q1384 n_J6_init_2 ⟨by decide, by decide⟩ (Nat.le_of_ble_eq_true rfl) dJ6_init_3) (zv_V ?_) (fun q => zx_thr x (fun z hz => (htab z hz).elim) q)
  exact z_vret (pc := 6) x hret dJ6_init_6
/-! J5_toString -/
def s_J5_toString (E : zE) (a0 : Option Nat) : zM := zNew 15 4 [.null, .int 0, .int 0, .int 0] (fun v0 => zC (zSp v0 (fun b => s_J6_init E (some b) a0)) zThr (zKV (zRet (some (va_rf v0)))))
theorem m_J5_toString {l : Launch} {E : zE} {D : va_G} {tA : Nat → ClassId} (hl : l.stackTraces = false) (a0 : Option Nat) : zMet l E D tA yJ5_toString (ws_ yJ5_toString cJ5_toString 1 (Option.some (Jvm.ClassFile.FieldType.object "java/lang/String"))) 16 (s_J5_toString E a0) [zP a0] := by
  refine z_met hl (by decide +kernel) (by rw [zSl_len]; exact (Nat.le_of_ble_eq_true rfl)) fun p e R s m args below meth c k0 x hret hnm htab => ?_
  refine z_lv [(0, zP a0)] rfl ?_
  unfold s_J5_toString
  refine z_new (pc := 0) x in_J6 tyJ6 tyJ6_ok q1377 q1378 q119 (ci := 15) rfl (by decide) (by decide +kernel) dJ5_toString_0 fun v0 => ?_
  refine z_dup (pc := 3) x dJ5_toString_3 rfl ?_
  refine z_aload_n (pc := 4) x 0 dJ5_toString_4 rfl rfl ?_
  refine z_call (pc := 5) (z_canI (pc := 5) (ret := none) (As := [zP a0]) (st := [zP v0]) x (fun b => m_J6_init hl (some b) a0) q1379 rfl q1380 q119 q1381 n_J6_init ⟨by decide, by decide⟩ (Nat.le_of_ble_eq_true rfl) dJ5_toString_5) (zv_V ?_) (fun q => zx_thr x (fun z hz => (htab z hz).elim) q)
  exact z_aret (pc := 8) x hret (Or.inl ⟨_, rfl⟩) dJ5_toString_8
/-! X20_init -/
def s_X20_init (E : zE) (a0 : Option Nat) (a1 : Option Nat) : zM := zSet E a0 27 2 (zVal (zP a1)) (zSp a0 (fun _ => zGetR a0 27 2 (fun v11 => zGetR v11 16 4 (fun v14 => zC (zRv v14 [(14, fun b => s_J5_toString E (some b))]) zThr (zKR (fun v17 => zSet E a0 27 0 (zVal (zP v17)) (zRet none)))))))
theorem m_X20_init {l : Launch} {E : zE} {D : va_G} {tA : Nat → ClassId} (hl : l.stackTraces = false) (a0 : Option Nat) (a1 : Option Nat) : zMet l E D tA yX20_init (ws_ yX20_init cX20_init 2 (Option.none : Option Jvm.ClassFile.FieldType)) 17 (s_X20_init E a0 a1) [zP a0, zP a1] := by
  refine z_met hl (by decide +kernel) (by rw [zSl_len]; exact (Nat.le_of_ble_eq_true rfl)) fun p e R s m args below meth c k0 x hret hnm htab => ?_
  refine z_lv [(0, zP a0), (1, zP a1)] rfl ?_
  unfold s_X20_init
  refine z_aload_n (pc := 0) x 0 dX20_init_0 rfl rfl ?_
  refine z_aload_n (pc := 1) x 1 dX20_init_1 rfl rfl ?_
  refine z_setF (pc := 2) (v := zP a1) x in_X20 tyX20 tyX20_ok nmX20 (ci := 27) rfl (k := 2) (by decide) q2171 (fun _ h => h) rfl hnm rfl (zfitR rfl _).1 (zfitR rfl _).2 dX20_init_2 ?_
  refine z_aload_n (pc := 5) x 0 dX20_init_5 rfl rfl ?_
  refine z_objInit (pc := 6) x q2167 q173 q174 (by omega) (zSum (k := 0) rfl (by omega)) dX20_init_6 ?_
  refine z_aload_n (pc := 9) x 0 dX20_init_9 rfl rfl ?_
  refine z_aload_n (pc := 10) x 0 dX20_init_10 rfl rfl ?_
  refine z_get (pc := 11) (fun _ _ h => zAsR_eq h) x in_X20 (ci := 27) rfl (k := 2) (by decide) q2171 (fun _ h => h) dX20_init_11 fun v11 => ?_
  refine z_getN (pc := 14) (fun _ _ h => zAsR_eq h) x in_X1 (ci := 16) rfl (k := 4) (by decide) q324 (fun _ h => h) dX20_init_14 fun v14 => ?_
  refine z_call (pc := 17) (z_canV (pc := 17) (As := []) (st := [zP a0]) x (ci := 14) rfl (fun b => m_J5_toString hl (some b)) q2168 q1374 (x.2.2.2.2.1 _ q1375) q118 q1376 n_J5_toString ⟨by decide, by decide⟩ (Nat.le_of_ble_eq_true rfl) dX20_init_17) (zv_R fun v17 => ?_) (fun q => zx_thr x (fun z hz => (htab z hz).elim) q)
  refine z_setF (pc := 20) (v := zP v17) x in_X20 tyX20 tyX20_ok nmX20 (ci := 27) rfl (k := 0) (by decide) q2169 (fun _ h => h) rfl hnm rfl (zfitR rfl _).1 (zfitR rfl _).2 dX20_init_20 ?_
  exact z_vret (pc := 23) x hret dX20_init_23
/-! J8_rangeCheck -/
def s_J8_rangeCheck (E : zE) (a0 : Int32) (a1 : Int32) (a2 : Int32) : zM := if a1 ≤ a2 then (if 0 ≤ a1 then (if a2 ≤ a0 then (zRet none) else zFail) else zFail) else zFail
theorem m_J8_rangeCheck {l : Launch} {E : zE} {D : va_G} {tA : Nat → ClassId} (hl : l.stackTraces = false) (a0 : Int32) (a1 : Int32) (a2 : Int32) : zMet l E D tA yJ8_rangeCheck (ws_ yJ8_rangeCheck cJ8_rangeCheck 3 (Option.none : Option Jvm.ClassFile.FieldType)) 9 (s_J8_rangeCheck E a0 a1 a2) [zI a0, zI a1, zI a2] := by
  refine z_met hl (by decide +kernel) (by rw [zSl_len]; exact (Nat.le_of_ble_eq_true rfl)) fun p e R s m args below meth c k0 x hret hnm htab => ?_
  refine z_lv [(0, zI a0), (1, zI a1), (2, zI a2)] rfl ?_
  unfold s_J8_rangeCheck
  refine z_iload_n (pc := 0) x 1 dJ8_rangeCheck_0 rfl rfl ?_
  refine z_iload_n (pc := 1) x 2 dJ8_rangeCheck_1 rfl rfl ?_
  refine z_icmp_le (pc := 2) (tgt := 46) x dJ8_rangeCheck_2 rfl (fun _ => ?_) (fun _ => ?_)
  · refine z_iload_n (pc := 46) x 1 dJ8_rangeCheck_46 rfl rfl ?_
    refine z_if_ge (pc := 47) (tgt := 59) x dJ8_rangeCheck_47 rfl (fun _ => ?_) (fun _ => ?_)
    · refine z_iload_n (pc := 59) x 2 dJ8_rangeCheck_59 rfl rfl ?_
      refine z_iload_n (pc := 60) x 0 dJ8_rangeCheck_60 rfl rfl ?_
      refine z_icmp_le (pc := 61) (tgt := 73) x dJ8_rangeCheck_61 rfl (fun _ => ?_) (fun _ => ?_)
      · exact z_vret (pc := 73) x hret dJ8_rangeCheck_73
      · exact z_fail
    · exact z_fail
  · exact z_fail
/-! J8_fill -/
def s_J8_fill_10 (E : zE) : Nat → Option Nat → Int32 → Int32 → Int32 → zM
  | 0, _, _, _, _ => zFail
  | n + 1, a0, a2, a3, a4 => if a2 ≤ a4 then (zRet none) else (zSaI E 1 a0 a4 (vp_nar .byte a3) ((s_J8_fill_10 E n) a0 a2 a3 (a4 + (1 : Int32))))
theorem w_J8_fill_10 (x : zCx p l R s m args meth c E D tA cJ8_fill 5 yJ8_fill.cls 10) (hl : l.stackTraces = false) (hret : meth.sig.returnType = (Option.none : Option Jvm.ClassFile.FieldType)) (hnm : meth.name = yJ8_fill.name) (htab : ∀ z ∈ c.exceptionTable.toList, False) : ∀ (n : Nat) (a0 : Option Nat) (a2 : Int32) (a3 : Int32) (a4 : Int32), zW p l e R s m args below meth c E D tA 5 k0 (s_J8_fill_10 E n a0 a2 a3 a4) [(0, zP a0), (2, zI a2), (3, zI a3), (4, zI a4)] 10 [] := by
  intro n
  induction n with
  | zero => intro a0 a2 a3 a4; exact z_fail
  | succ n h10 =>
    intro a0 a2 a3 a4
    rw [s_J8_fill_10]
    refine z_iload (pc := 10) x 3 dJ8_fill_10 rfl ?_
    refine z_iload_n (pc := 12) x 1 dJ8_fill_12 rfl rfl ?_
    refine z_icmp_ge (pc := 13) (tgt := 27) x dJ8_fill_13 rfl (fun _ => ?_) (fun _ => ?_)
    · exact z_vret (pc := 27) x hret dJ8_fill_27
    · refine z_aload_n (pc := 16) x 0 dJ8_fill_16 rfl rfl ?_
      refine z_iload (pc := 17) x 3 dJ8_fill_17 rfl ?_
      refine z_iload_n (pc := 19) x 2 dJ8_fill_19 rfl rfl ?_
      refine z_bast (pc := 20) x (t := 1) rfl dJ8_fill_20 ?_
      refine z_iinc (pc := 21) (lv' := [(4, zI (a4 + (1 : Int32))), (0, zP a0), (2, zI a2), (3, zI a3)]) x (v2 := (a4 + (1 : Int32))) 3 dJ8_fill_21 rfl rfl (Nat.le_of_ble_eq_true rfl) rfl ?_
      refine z_goto (pc := 24) (tgt := 10) x dJ8_fill_24 rfl ?_
      exact z_sub [1, 2, 3, 0] rfl (h10 a0 a2 a3 (a4 + (1 : Int32)))
def s_J8_fill (E : zE) (a0 : Option Nat) (a1 : Int32) (a2 : Int32) (a3 : Int32) : zM := zLen a0 (fun v1 => zC (s_J8_rangeCheck E v1 a1 a2) zThr (zKV (s_J8_fill_10 E zN a0 a2 a3 a1)))
theorem m_J8_fill {l : Launch} {E : zE} {D : va_G} {tA : Nat → ClassId} (hl : l.stackTraces = false) (a0 : Option Nat) (a1 : Int32) (a2 : Int32) (a3 : Int32) : zMet l E D tA yJ8_fill (ws_ yJ8_fill cJ8_fill 5 (Option.none : Option Jvm.ClassFile.FieldType)) 10 (s_J8_fill E a0 a1 a2 a3) [zP a0, zI a1, zI a2, zI a3] := by
  refine z_met hl (by decide +kernel) (by rw [zSl_len]; exact (Nat.le_of_ble_eq_true rfl)) fun p e R s m args below meth c k0 x hret hnm htab => ?_
  refine z_lv [(0, zP a0), (1, zI a1), (2, zI a2), (3, zI a3)] rfl ?_
  unfold s_J8_fill
  refine z_aload_n (pc := 0) x 0 dJ8_fill_0 rfl rfl ?_
  refine z_len (pc := 1) x dJ8_fill_1 fun v1 => ?_
  refine z_iload_n (pc := 2) x 1 dJ8_fill_2 rfl rfl ?_
  refine z_iload_n (pc := 3) x 2 dJ8_fill_3 rfl rfl ?_
  refine z_call (pc := 4) (z_canS (pc := 4) (As := [zI v1, zI a1, zI a2]) (st := []) x (m_J8_rangeCheck hl v1 a1 a2) q2211 q2212 q122 q2213 n_J8_rangeCheck ⟨by decide, by decide⟩ (Nat.le_of_ble_eq_true rfl) dJ8_fill_4) (zv_V ?_) (fun q => zx_thr x (fun z hz => (htab z hz).elim) q)
  refine z_iload_n (pc := 7) x 1 dJ8_fill_7 rfl rfl ?_
  refine z_istore (pc := 8) (lv' := [(4, zI a1), (0, zP a0), (1, zI a1), (2, zI a2), (3, zI a3)]) x dJ8_fill_8 (Nat.le_of_ble_eq_true rfl) rfl ?_
  exact z_sub [1, 3, 4, 0] rfl (w_J8_fill_10 x hl hret hnm htab zN a0 a2 a3 a1)
/-! J18_fillNull -/
def s_J18_fillNull (E : zE) (a0 : Option Nat) (a1 : Int32) (a2 : Int32) : zM := zC (s_J8_fill E a0 a1 a2 (0 : Int32)) zThr (zKV (zRet none))
theorem m_J18_fillNull {l : Launch} {E : zE} {D : va_G} {tA : Nat → ClassId} (hl : l.stackTraces = false) (a0 : Option Nat) (a1 : Int32) (a2 : Int32) : zMet l E D tA yJ18_fillNull (ws_ yJ18_fillNull cJ18_fillNull 3 (Option.none : Option Jvm.ClassFile.FieldType)) 11 (s_J18_fillNull E a0 a1 a2) [zP a0, zI a1, zI a2] := by
  refine z_met hl (by decide +kernel) (by rw [zSl_len]; exact (Nat.le_of_ble_eq_true rfl)) fun p e R s m args below meth c k0 x hret hnm htab => ?_
  refine z_lv [(0, zP a0), (1, zI a1), (2, zI a2)] rfl ?_
  unfold s_J18_fillNull
  refine z_aload_n (pc := 0) x 0 dJ18_fillNull_0 rfl rfl ?_
  refine z_iload_n (pc := 1) x 1 dJ18_fillNull_1 rfl rfl ?_
  refine z_iload_n (pc := 2) x 2 dJ18_fillNull_2 rfl rfl ?_
  refine z_iconst (pc := 3) x (v := (0 : Int32)) dJ18_fillNull_3 rfl ?_
  refine z_call (pc := 4) (z_canS (pc := 4) (As := [zP a0, zI a1, zI a2, zI (0 : Int32)]) (st := []) x (m_J8_fill hl a0 a1 a2 (0 : Int32)) q2208 q2209 q122 q2210 n_J8_fill ⟨by decide, by decide⟩ (Nat.le_of_ble_eq_true rfl) dJ18_fillNull_4) (zv_V ?_) (fun q => zx_thr x (fun z hz => (htab z hz).elim) q)
  exact z_vret (pc := 7) x hret dJ18_fillNull_7
/-! J7_fillNull -/
def s_J7_fillNull (E : zE) (a0 : Option Nat) (a1 : Int32) (a2 : Int32) : zM := zC (s_J8_fill E a0 (a1 <<< ((1 : Int32) &&& 31)) (a2 <<< ((1 : Int32) &&& 31)) (0 : Int32)) zThr (zKV (zRet none))
theorem m_J7_fillNull {l : Launch} {E : zE} {D : va_G} {tA : Nat → ClassId} (hl : l.stackTraces = false) (a0 : Option Nat) (a1 : Int32) (a2 : Int32) : zMet l E D tA yJ7_fillNull (ws_ yJ7_fillNull cJ7_fillNull 3 (Option.none : Option Jvm.ClassFile.FieldType)) 11 (s_J7_fillNull E a0 a1 a2) [zP a0, zI a1, zI a2] := by
  refine z_met hl (by decide +kernel) (by rw [zSl_len]; exact (Nat.le_of_ble_eq_true rfl)) fun p e R s m args below meth c k0 x hret hnm htab => ?_
  refine z_lv [(0, zP a0), (1, zI a1), (2, zI a2)] rfl ?_
  unfold s_J7_fillNull
  refine z_aload_n (pc := 0) x 0 dJ7_fillNull_0 rfl rfl ?_
  refine z_iload_n (pc := 1) x 1 dJ7_fillNull_1 rfl rfl ?_
  refine z_iconst (pc := 2) x (v := (1 : Int32)) dJ7_fillNull_2 rfl ?_
  refine z_ishl (pc := 3) x dJ7_fillNull_3 ?_
  refine z_iload_n (pc := 4) x 2 dJ7_fillNull_4 rfl rfl ?_
  refine z_iconst (pc := 5) x (v := (1 : Int32)) dJ7_fillNull_5 rfl ?_
  refine z_ishl (pc := 6) x dJ7_fillNull_6 ?_
  refine z_iconst (pc := 7) x (v := (0 : Int32)) dJ7_fillNull_7 rfl ?_
  refine z_call (pc := 8) (z_canS (pc := 8) (As := [zP a0, zI (a1 <<< ((1 : Int32) &&& 31)), zI (a2 <<< ((1 : Int32) &&& 31)), zI (0 : Int32)]) (st := []) x (m_J8_fill hl a0 (a1 <<< ((1 : Int32) &&& 31)) (a2 <<< ((1 : Int32) &&& 31)) (0 : Int32)) q2230 q2209 q122 q2210 n_J8_fill ⟨by decide, by decide⟩ (Nat.le_of_ble_eq_true rfl) dJ7_fillNull_8) (zv_V ?_) (fun q => zx_thr x (fun z hz => (htab z hz).elim) q)
  exact z_vret (pc := 11) x hret dJ7_fillNull_11
/-! J4_setLength -/
def s_J4_setLength_76 (E : zE) (a0 : Option Nat) (a1 : Int32) : zM := zSet E a0 14 3 (zVal (zI a1)) (zRet none)
theorem w_J4_setLength_76 (x : zCx p l R s m args meth c E D tA cJ4_setLength 2 yJ4_setLength.cls 12) (hl : l.stackTraces = false) (hret : meth.sig.returnType = (Option.none : Option Jvm.ClassFile.FieldType)) (hnm : meth.name = yJ4_setLength.name) (htab : ∀ z ∈ c.exceptionTable.toList, False) (a0 : Option Nat) (a1 : Int32) : zW p l e R s m args below meth c E D tA 2 k0 (s_J4_setLength_76 E a0 a1) [(0, zP a0), (1, zI a1)] 76 [] := by
  unfold s_J4_setLength_76
  refine z_aload_n (pc := 76) x 0 dJ4_setLength_76 rfl rfl ?_
  refine z_iload_n (pc := 77) x 1 dJ4_setLength_77 rfl rfl ?_
  refine z_set (pc := 78) (v := zI a1) x in_J5 tyJ5 tyJ5_ok nmJ5 (ci := 14) rfl (k := 3) (by decide) q308 (fun _ h => h) rfl rfl rfl dJ4_setLength_78 ?_
  exact z_vret (pc := 81) x hret dJ4_setLength_81
def s_J4_setLength (E : zE) (a0 : Option Nat) (a1 : Int32) : zM := if 0 ≤ a1 then (zC (zRv a0 [(14, fun b => s_J4_ensureCapacityInternal E (some b) a1)]) zThr (zKV (zGetI a0 14 3 (fun v19 => if a1 ≤ v19 then (zGetI a0 14 3 (fun v64 => if v64 ≤ a1 then (s_J4_setLength_76 E a0 a1) else (zSetN E .boolean a0 14 2 (1 : Int32) (s_J4_setLength_76 E a0 a1)))) else (zC (zRv a0 [(14, fun b => s_J4_isLatin1 E (some b))]) zThr (zKI (fun v27 => if v27 = 0 then (zGetR a0 14 0 (fun v49 => zGetI a0 14 3 (fun v53 => zC (s_J7_fillNull E v49 v53 a1) zThr (zKV (s_J4_setLength_76 E a0 a1))))) else (zGetR a0 14 0 (fun v34 => zGetI a0 14 3 (fun v38 => zC (s_J18_fillNull E v34 v38 a1) zThr (zKV (s_J4_setLength_76 E a0 a1)))))))))))) else zFail
theorem m_J4_setLength {l : Launch} {E : zE} {D : va_G} {tA : Nat → ClassId} (hl : l.stackTraces = false) (a0 : Option Nat) (a1 : Int32) : zMet l E D tA yJ4_setLength (ws_ yJ4_setLength cJ4_setLength 2 (Option.none : Option Jvm.ClassFile.FieldType)) 12 (s_J4_setLength E a0 a1) [zP a0, zI a1] := by
  refine z_met hl (by decide +kernel) (by rw [zSl_len]; exact (Nat.le_of_ble_eq_true rfl)) fun p e R s m args below meth c k0 x hret hnm htab => ?_
  refine z_lv [(0, zP a0), (1, zI a1)] rfl ?_
  unfold s_J4_setLength
  refine z_iload_n (pc := 0) x 1 dJ4_setLength_0 rfl rfl ?_
  refine z_if_ge (pc := 1) (tgt := 13) x dJ4_setLength_1 rfl (fun _ => ?_) (fun _ => ?_)
  · refine z_aload_n (pc := 13) x 0 dJ4_setLength_13 rfl rfl ?_
    refine z_iload_n (pc := 14) x 1 dJ4_setLength_14 rfl rfl ?_
    refine z_call (pc := 15) (z_canV (pc := 15) (As := [zI a1]) (st := []) x (ci := 14) rfl (fun b => m_J4_ensureCapacityInternal hl (some b) a1) q1233 q1235 (z_selP x (ci := 14) rfl (by decide) (zNi_sel (z := ⟨"java/lang/AbstractStringBuilder", "isLatin1", "()Z"⟩) x q1254) q1234 q1235) q117 q1236 n_J4_ensureCapacityInternal ⟨by decide, by decide⟩ (Nat.le_of_ble_eq_true rfl) dJ4_setLength_15) (zv_V ?_) (fun q => zx_thr x (fun z hz => (htab z hz).elim) q)
    refine z_aload_n (pc := 18) x 0 dJ4_setLength_18 rfl rfl ?_
    refine z_get (pc := 19) (fun _ _ h => zAsI_eq h) x in_J5 (ci := 14) rfl (k := 3) (by decide) q308 (fun _ h => h) dJ4_setLength_19 fun v19 => ?_
    refine z_iload_n (pc := 22) x 1 dJ4_setLength_22 rfl rfl ?_
    refine z_icmp_ge (pc := 23) (tgt := 63) x dJ4_setLength_23 rfl (fun _ => ?_) (fun _ => ?_)
    · refine z_aload_n (pc := 63) x 0 dJ4_setLength_63 rfl rfl ?_
      refine z_get (pc := 64) (fun _ _ h => zAsI_eq h) x in_J5 (ci := 14) rfl (k := 3) (by decide) q308 (fun _ h => h) dJ4_setLength_64 fun v64 => ?_
      refine z_iload_n (pc := 67) x 1 dJ4_setLength_67 rfl rfl ?_
      refine z_icmp_le (pc := 68) (tgt := 76) x dJ4_setLength_68 rfl (fun _ => ?_) (fun _ => ?_)
      · exact z_sub [0, 1] rfl (w_J4_setLength_76 x hl hret hnm htab a0 a1)
      · refine z_aload_n (pc := 71) x 0 dJ4_setLength_71 rfl rfl ?_
        refine z_iconst (pc := 72) x (v := (1 : Int32)) dJ4_setLength_72 rfl ?_
        refine z_set_small fun hn hf => ?_
        refine z_set (pc := 73) (v := zI (1 : Int32)) x in_J5 tyJ5 tyJ5_ok nmJ5 (ci := 14) rfl (k := 2) (by decide) q306 (fun _ h => h) rfl hn hf dJ4_setLength_73 ?_
        exact z_sub [0, 1] rfl (w_J4_setLength_76 x hl hret hnm htab a0 a1)
    · refine z_aload_n (pc := 26) x 0 dJ4_setLength_26 rfl rfl ?_
      refine z_call (pc := 27) (z_canV (pc := 27) (As := []) (st := []) x (ci := 14) rfl (fun b => m_J4_isLatin1 hl (some b)) q1251 q1252 (x.2.2.2.2.1 _ q1254) q117 q1255 n_J4_isLatin1 ⟨by decide, by decide⟩ (Nat.le_of_ble_eq_true rfl) dJ4_setLength_27) (zv_I fun v27 => ?_) (fun q => zx_thr x (fun z hz => (htab z hz).elim) q)
      refine z_if_eq (pc := 30) (tgt := 48) x dJ4_setLength_30 rfl (fun _ => ?_) (fun _ => ?_)
      · refine z_aload_n (pc := 48) x 0 dJ4_setLength_48 rfl rfl ?_
        refine z_get (pc := 49) (fun _ _ h => zAsR_eq h) x in_J5 (ci := 14) rfl (k := 0) (by decide) q304 (fun _ h => h) dJ4_setLength_49 fun v49 => ?_
        refine z_aload_n (pc := 52) x 0 dJ4_setLength_52 rfl rfl ?_
        refine z_get (pc := 53) (fun _ _ h => zAsI_eq h) x in_J5 (ci := 14) rfl (k := 3) (by decide) q308 (fun _ h => h) dJ4_setLength_53 fun v53 => ?_
        refine z_iload_n (pc := 56) x 1 dJ4_setLength_56 rfl rfl ?_
        refine z_call (pc := 57) (z_canS (pc := 57) (As := [zP v49, zI v53, zI a1]) (st := []) x (m_J7_fillNull hl v49 v53 a1) q2227 q2228 q120 q2229 n_J7_fillNull ⟨by decide, by decide⟩ (Nat.le_of_ble_eq_true rfl) dJ4_setLength_57) (zv_V ?_) (fun q => zx_thr x (fun z hz => (htab z hz).elim) q)
        refine z_goto (pc := 60) (tgt := 76) x dJ4_setLength_60 rfl ?_
        exact z_sub [0, 1] rfl (w_J4_setLength_76 x hl hret hnm htab a0 a1)
      · refine z_aload_n (pc := 33) x 0 dJ4_setLength_33 rfl rfl ?_
        refine z_get (pc := 34) (fun _ _ h => zAsR_eq h) x in_J5 (ci := 14) rfl (k := 0) (by decide) q304 (fun _ h => h) dJ4_setLength_34 fun v34 => ?_
        refine z_aload_n (pc := 37) x 0 dJ4_setLength_37 rfl rfl ?_
        refine z_get (pc := 38) (fun _ _ h => zAsI_eq h) x in_J5 (ci := 14) rfl (k := 3) (by decide) q308 (fun _ h => h) dJ4_setLength_38 fun v38 => ?_
        refine z_iload_n (pc := 41) x 1 dJ4_setLength_41 rfl rfl ?_
        refine z_call (pc := 42) (z_canS (pc := 42) (As := [zP v34, zI v38, zI a1]) (st := []) x (m_J18_fillNull hl v34 v38 a1) q2205 q2206 q133 q2207 n_J18_fillNull ⟨by decide, by decide⟩ (Nat.le_of_ble_eq_true rfl) dJ4_setLength_42) (zv_V ?_) (fun q => zx_thr x (fun z hz => (htab z hz).elim) q)
        refine z_goto (pc := 45) (tgt := 76) x dJ4_setLength_45 rfl ?_
        exact z_sub [0, 1] rfl (w_J4_setLength_76 x hl hret hnm htab a0 a1)
  · exact z_fail
/-! J5_setLength -/
def s_J5_setLength (E : zE) (a0 : Option Nat) (a1 : Int32) : zM := zC (zRv a0 [(14, fun b => s_J4_setLength E (some b) a1)]) zThr (zKV (zRet none))
theorem m_J5_setLength {l : Launch} {E : zE} {D : va_G} {tA : Nat → ClassId} (hl : l.stackTraces = false) (a0 : Option Nat) (a1 : Int32) : zMet l E D tA yJ5_setLength (ws_ yJ5_setLength cJ5_setLength 2 (Option.none : Option Jvm.ClassFile.FieldType)) 13 (s_J5_setLength E a0 a1) [zP a0, zI a1] := by
  refine z_met hl (by decide +kernel) (by rw [zSl_len]; exact (Nat.le_of_ble_eq_true rfl)) fun p e R s m args below meth c k0 x hret hnm htab => ?_
  refine z_lv [(0, zP a0), (1, zI a1)] rfl ?_
  unfold s_J5_setLength
  refine z_aload_n (pc := 0) x 0 dJ5_setLength_0 rfl rfl ?_
  refine z_iload_n (pc := 1) x 1 dJ5_setLength_1 rfl rfl ?_
  refine z_call (pc := 2) (z_canSU (pc := 2) (As := [zI a1]) (st := []) x (ci := 14) rfl (fun b => m_J4_setLength hl (some b) a1) q2183 q3360 q317 (by decide) q2184 q117 q2185 n_J4_setLength ⟨by decide, by decide⟩ (Nat.le_of_ble_eq_true rfl) dJ5_setLength_2) (zv_V ?_) (fun q => zx_thr x (fun z hz => (htab z hz).elim) q)
  exact z_vret (pc := 5) x hret dJ5_setLength_5
/-! J6_coder -/
def s_J6_coder (E : zE) (a0 : Option Nat) : zM := if (1 : Int32) = 0 then (zRetN .byte (1 : Int32)) else (zGetI a0 15 1 (fun v7 => zRetN .byte v7))
theorem m_J6_coder {l : Launch} {E : zE} {D : va_G} {tA : Nat → ClassId} (hl : l.stackTraces = false) (a0 : Option Nat) : zMet l E D tA yJ6_coder (ws_ yJ6_coder cJ6_coder 1 (Option.some Jvm.ClassFile.FieldType.byte)) 9 (s_J6_coder E a0) [zP a0] := by
  refine z_met hl (by decide +kernel) (by rw [zSl_len]; exact (Nat.le_of_ble_eq_true rfl)) fun p e R s m args below meth c k0 x hret hnm htab => ?_
  refine z_lv [(0, zP a0)] rfl ?_
  unfold s_J6_coder
  refine z_staI (pc := 0) x (v := (1 : Int32)) (by decide) q1290 dJ6_coder_0 ?_
  refine z_if_eq (pc := 3) (tgt := 13) x dJ6_coder_3 rfl (fun _ => ?_) (fun _ => ?_)
  · refine z_iconst (pc := 13) x (v := (1 : Int32)) dJ6_coder_13 rfl ?_
    exact z_zret (pc := 14) x hret dJ6_coder_14
  · refine z_aload_n (pc := 6) x 0 dJ6_coder_6 rfl rfl ?_
    refine z_get (pc := 7) (fun _ _ h => zAsI_eq h) x in_J6 (ci := 15) rfl (k := 1) (by decide) q1437 (fun _ h => h) dJ6_coder_7 fun v7 => ?_
    refine z_goto (pc := 10) (tgt := 14) x dJ6_coder_10 rfl ?_
    exact z_zret (pc := 14) x hret dJ6_coder_14
/-! J6_length -/
def s_J6_length (E : zE) (a0 : Option Nat) : zM := zGetR a0 15 0 (fun v1 => zLen v1 (fun v4 => zC (zRv a0 [(15, fun b => s_J6_coder E (some b))]) zThr (zKI (fun v6 => zRet (some (.int (v4 >>> (v6 &&& 31))))))))
theorem m_J6_length {l : Launch} {E : zE} {D : va_G} {tA : Nat → ClassId} (hl : l.stackTraces = false) (a0 : Option Nat) : zMet l E D tA yJ6_length (ws_ yJ6_length cJ6_length 1 (Option.some Jvm.ClassFile.FieldType.int)) 10 (s_J6_length E a0) [zP a0] := by
  refine z_met hl (by decide +kernel) (by rw [zSl_len]; exact (Nat.le_of_ble_eq_true rfl)) fun p e R s m args below meth c k0 x hret hnm htab => ?_
  refine z_lv [(0, zP a0)] rfl ?_
  unfold s_J6_length
  refine z_aload_n (pc := 0) x 0 dJ6_length_0 rfl rfl ?_
  refine z_get (pc := 1) (fun _ _ h => zAsR_eq h) x in_J6 (ci := 15) rfl (k := 0) (by decide) q1436 (fun _ h => h) dJ6_length_1 fun v1 => ?_
  refine z_len (pc := 4) x dJ6_length_4 fun v4 => ?_
  refine z_aload_n (pc := 5) x 0 dJ6_length_5 rfl rfl ?_
  refine z_call (pc := 6) (z_canV (pc := 6) (As := []) (st := [zI v4]) x (ci := 15) rfl (fun b => m_J6_coder hl (some b)) q1286 q1287 (x.2.2.2.2.1 _ q1288) q119 q1289 n_J6_coder ⟨by decide, by decide⟩ (Nat.le_of_ble_eq_true rfl) dJ6_length_6) (zv_I fun v6 => ?_) (fun q => zx_thr x (fun z hz => (htab z hz).elim) q)
  refine z_ishr (pc := 9) x dJ6_length_9 ?_
  exact z_iret (pc := 10) x hret dJ6_length_10
/-! J6_isLatin1 -/
def s_J6_isLatin1 (E : zE) (a0 : Option Nat) : zM := if (1 : Int32) = 0 then (zRetN .boolean (0 : Int32)) else (zGetI a0 15 1 (fun v7 => if v7 = 0 then (zRetN .boolean (1 : Int32)) else (zRetN .boolean (0 : Int32))))
theorem m_J6_isLatin1 {l : Launch} {E : zE} {D : va_G} {tA : Nat → ClassId} (hl : l.stackTraces = false) (a0 : Option Nat) : zMet l E D tA yJ6_isLatin1 (ws_ yJ6_isLatin1 cJ6_isLatin1 1 (Option.some Jvm.ClassFile.FieldType.boolean)) 9 (s_J6_isLatin1 E a0) [zP a0] := by
  refine z_met hl (by decide +kernel) (by rw [zSl_len]; exact (Nat.le_of_ble_eq_true rfl)) fun p e R s m args below meth c k0 x hret hnm htab => ?_
  refine z_lv [(0, zP a0)] rfl ?_
  unfold s_J6_isLatin1
  refine z_staI (pc := 0) x (v := (1 : Int32)) (by decide) q1290 dJ6_isLatin1_0 ?_
  refine z_if_eq (pc := 3) (tgt := 17) x dJ6_isLatin1_3 rfl (fun _ => ?_) (fun _ => ?_)
  · refine z_iconst (pc := 17) x (v := (0 : Int32)) dJ6_isLatin1_17 rfl ?_
    exact z_zret (pc := 18) x hret dJ6_isLatin1_18
  · refine z_aload_n (pc := 6) x 0 dJ6_isLatin1_6 rfl rfl ?_
    refine z_get (pc := 7) (fun _ _ h => zAsI_eq h) x in_J6 (ci := 15) rfl (k := 1) (by decide) q1437 (fun _ h => h) dJ6_isLatin1_7 fun v7 => ?_
    refine z_if_ne (pc := 10) (tgt := 17) x dJ6_isLatin1_10 rfl (fun _ => ?_) (fun _ => ?_)
    · refine z_iconst (pc := 13) x (v := (1 : Int32)) dJ6_isLatin1_13 rfl ?_
      refine z_goto (pc := 14) (tgt := 18) x dJ6_isLatin1_14 rfl ?_
      exact z_zret (pc := 18) x hret dJ6_isLatin1_18
    · refine z_iconst (pc := 17) x (v := (0 : Int32)) dJ6_isLatin1_17 rfl ?_
      exact z_zret (pc := 18) x hret dJ6_isLatin1_18
/-! J18_charAt -/
def s_J18_charAt (E : zE) (a0 : Option Nat) (a1 : Int32) : zM := zLen a0 (fun v2 => zC (s_J6_checkIndex E a1 v2) zThr (zKV (zGaI 1 a0 a1 (fun v8 => zRetN .char ((((v8 &&& (255 : Int32))).toUInt32 % 65536).toInt32)))))
theorem m_J18_charAt {l : Launch} {E : zE} {D : va_G} {tA : Nat → ClassId} (hl : l.stackTraces = false) (a0 : Option Nat) (a1 : Int32) : zMet l E D tA yJ18_charAt (ws_ yJ18_charAt cJ18_charAt 2 (Option.some Jvm.ClassFile.FieldType.char)) 11 (s_J18_charAt E a0 a1) [zP a0, zI a1] := by
  refine z_met hl (by decide +kernel) (by rw [zSl_len]; exact (Nat.le_of_ble_eq_true rfl)) fun p e R s m args below meth c k0 x hret hnm htab => ?_
  refine z_lv [(0, zP a0), (1, zI a1)] rfl ?_
  unfold s_J18_charAt
  refine z_iload_n (pc := 0) x 1 dJ18_charAt_0 rfl rfl ?_
  refine z_aload_n (pc := 1) x 0 dJ18_charAt_1 rfl rfl ?_
  refine z_len (pc := 2) x dJ18_charAt_2 fun v2 => ?_
  refine z_call (pc := 3) (z_canS (pc := 3) (As := [zI a1, zI v2]) (st := []) x (m_J6_checkIndex hl a1 v2) q2257 q1345 q119 q1346 n_J6_checkIndex ⟨by decide, by decide⟩ (Nat.le_of_ble_eq_true rfl) dJ18_charAt_3) (zv_V ?_) (fun q => zx_thr x (fun z hz => (htab z hz).elim) q)
  refine z_aload_n (pc := 6) x 0 dJ18_charAt_6 rfl rfl ?_
  refine z_iload_n (pc := 7) x 1 dJ18_charAt_7 rfl rfl ?_
  refine z_bald (pc := 8) x (t := 1) rfl dJ18_charAt_8 fun v8 => ?_
  refine z_sipush (pc := 9) x (v := (255 : Int32)) dJ18_charAt_9 rfl ?_
  refine z_iand (pc := 12) x dJ18_charAt_12 ?_
  refine z_i2c (pc := 13) x dJ18_charAt_13 ?_
  exact z_zret (pc := 14) x hret dJ18_charAt_14
/-! J7_charAt -/
def s_J7_charAt (E : zE) (a0 : Option Nat) (a1 : Int32) : zM := zC (s_J7_checkIndex E a1 a0) zThr (zKV (zC (s_J7_getChar E a0 a1) zThr (zKI (fun v7 => zRetN .char v7))))
theorem m_J7_charAt {l : Launch} {E : zE} {D : va_G} {tA : Nat → ClassId} (hl : l.stackTraces = false) (a0 : Option Nat) (a1 : Int32) : zMet l E D tA yJ7_charAt (ws_ yJ7_charAt cJ7_charAt 2 (Option.some Jvm.ClassFile.FieldType.char)) 12 (s_J7_charAt E a0 a1) [zP a0, zI a1] := by
  refine z_met hl (by decide +kernel) (by rw [zSl_len]; exact (Nat.le_of_ble_eq_true rfl)) fun p e R s m args below meth c k0 x hret hnm htab => ?_
  refine z_lv [(0, zP a0), (1, zI a1)] rfl ?_
  unfold s_J7_charAt
  refine z_iload_n (pc := 0) x 1 dJ7_charAt_0 rfl rfl ?_
  refine z_aload_n (pc := 1) x 0 dJ7_charAt_1 rfl rfl ?_
  refine z_call (pc := 2) (z_canS (pc := 2) (As := [zI a1, zP a0]) (st := []) x (m_J7_checkIndex hl a1 a0) q1341 q1342 q120 q1343 n_J7_checkIndex ⟨by decide, by decide⟩ (Nat.le_of_ble_eq_true rfl) dJ7_charAt_2) (zv_V ?_) (fun q => zx_thr x (fun z hz => (htab z hz).elim) q)
  refine z_aload_n (pc := 5) x 0 dJ7_charAt_5 rfl rfl ?_
  refine z_iload_n (pc := 6) x 1 dJ7_charAt_6 rfl rfl ?_
  refine z_call (pc := 7) (z_canS (pc := 7) (As := [zP a0, zI a1]) (st := []) x (m_J7_getChar hl a0 a1) q1429 q1430 q120 q1431 n_J7_getChar ⟨by decide, by decide⟩ (Nat.le_of_ble_eq_true rfl) dJ7_charAt_7) (zv_I fun v7 => ?_) (fun q => zx_thr x (fun z hz => (htab z hz).elim) q)
  exact z_zret (pc := 10) x hret dJ7_charAt_10
/-! J6_charAt -/
def s_J6_charAt (E : zE) (a0 : Option Nat) (a1 : Int32) : zM := zC (zRv a0 [(15, fun b => s_J6_isLatin1 E (some b))]) zThr (zKI (fun v1 => if v1 = 0 then (zGetR a0 15 0 (fun v17 => zC (s_J7_charAt E v17 a1) zThr (zKI (fun v21 => zRetN .char v21)))) else (zGetR a0 15 0 (fun v8 => zC (s_J18_charAt E v8 a1) zThr (zKI (fun v12 => zRetN .char v12))))))
theorem m_J6_charAt {l : Launch} {E : zE} {D : va_G} {tA : Nat → ClassId} (hl : l.stackTraces = false) (a0 : Option Nat) (a1 : Int32) : zMet l E D tA yJ6_charAt (ws_ yJ6_charAt cJ6_charAt 2 (Option.some Jvm.ClassFile.FieldType.char)) 13 (s_J6_charAt E a0 a1) [zP a0, zI a1] := by
  refine z_met hl (by decide +kernel) (by rw [zSl_len]; exact (Nat.le_of_ble_eq_true rfl)) fun p e R s m args below meth c k0 x hret hnm htab => ?_
  refine z_lv [(0, zP a0), (1, zI a1)] rfl ?_
  unfold s_J6_charAt
  refine z_aload_n (pc := 0) x 0 dJ6_charAt_0 rfl rfl ?_
  refine z_call (pc := 1) (z_canV (pc := 1) (As := []) (st := []) x (ci := 15) rfl (fun b => m_J6_isLatin1 hl (some b)) q2250 q2251 (x.2.2.2.2.1 _ q2252) q119 q2253 n_J6_isLatin1 ⟨by decide, by decide⟩ (Nat.le_of_ble_eq_true rfl) dJ6_charAt_1) (zv_I fun v1 => ?_) (fun q => zx_thr x (fun z hz => (htab z hz).elim) q)
  refine z_if_eq (pc := 4) (tgt := 16) x dJ6_charAt_4 rfl (fun _ => ?_) (fun _ => ?_)
  · refine z_aload_n (pc := 16) x 0 dJ6_charAt_16 rfl rfl ?_
    refine z_get (pc := 17) (fun _ _ h => zAsR_eq h) x in_J6 (ci := 15) rfl (k := 0) (by decide) q1436 (fun _ h => h) dJ6_charAt_17 fun v17 => ?_
    refine z_iload_n (pc := 20) x 1 dJ6_charAt_20 rfl rfl ?_
    refine z_call (pc := 21) (z_canS (pc := 21) (As := [zP v17, zI a1]) (st := []) x (m_J7_charAt hl v17 a1) q2258 q2259 q120 q2260 n_J7_charAt ⟨by decide, by decide⟩ (Nat.le_of_ble_eq_true rfl) dJ6_charAt_21) (zv_I fun v21 => ?_) (fun q => zx_thr x (fun z hz => (htab z hz).elim) q)
    exact z_zret (pc := 24) x hret dJ6_charAt_24
  · refine z_aload_n (pc := 7) x 0 dJ6_charAt_7 rfl rfl ?_
    refine z_get (pc := 8) (fun _ _ h => zAsR_eq h) x in_J6 (ci := 15) rfl (k := 0) (by decide) q1436 (fun _ h => h) dJ6_charAt_8 fun v8 => ?_
    refine z_iload_n (pc := 11) x 1 dJ6_charAt_11 rfl rfl ?_
    refine z_call (pc := 12) (z_canS (pc := 12) (As := [zP v8, zI a1]) (st := []) x (m_J18_charAt hl v8 a1) q2254 q2255 q133 q2256 n_J18_charAt ⟨by decide, by decide⟩ (Nat.le_of_ble_eq_true rfl) dJ6_charAt_12) (zv_I fun v12 => ?_) (fun q => zx_thr x (fun z hz => (htab z hz).elim) q)
    exact z_zret (pc := 15) x hret dJ6_charAt_15
/-! X20_isNextBetween -/
def s_X20_isNextBetween (E : zE) (a0 : Option Nat) (a1 : Int32) (a2 : Int32) : zM := zGetI a0 27 1 (fun v1 => zGetR a0 27 0 (fun v5 => zC (zRv v5 [(15, fun b => s_J6_length E (some b))]) zThr (zKI (fun v8 => if v8 ≤ v1 then (zRetN .boolean (0 : Int32)) else (zGetR a0 27 0 (fun v16 => zGetI a0 27 1 (fun v20 => zC (zRv v16 [(15, fun b => s_J6_charAt E (some b) v20)]) zThr (zKI (fun v23 => if v23 < a1 then (zRetN .boolean (0 : Int32)) else (zGetR a0 27 0 (fun v30 => zGetI a0 27 1 (fun v34 => zC (zRv v30 [(15, fun b => s_J6_charAt E (some b) v34)]) zThr (zKI (fun v37 => if a2 < v37 then (zRetN .boolean (0 : Int32)) else (zRetN .boolean (1 : Int32))))))))))))))))
theorem m_X20_isNextBetween {l : Launch} {E : zE} {D : va_G} {tA : Nat → ClassId} (hl : l.stackTraces = false) (a0 : Option Nat) (a1 : Int32) (a2 : Int32) : zMet l E D tA yX20_isNextBetween (ws_ yX20_isNextBetween cX20_isNextBetween 3 (Option.some Jvm.ClassFile.FieldType.boolean)) 14 (s_X20_isNextBetween E a0 a1 a2) [zP a0, zI a1, zI a2] := by
  refine z_met hl (by decide +kernel) (by rw [zSl_len]; exact (Nat.le_of_ble_eq_true rfl)) fun p e R s m args below meth c k0 x hret hnm htab => ?_
  refine z_lv [(0, zP a0), (1, zI a1), (2, zI a2)] rfl ?_
  unfold s_X20_isNextBetween
  refine z_aload_n (pc := 0) x 0 dX20_isNextBetween_0 rfl rfl ?_
  refine z_get (pc := 1) (fun _ _ h => zAsI_eq h) x in_X20 (ci := 27) rfl (k := 1) (by decide) q2170 (fun _ h => h) dX20_isNextBetween_1 fun v1 => ?_
  refine z_aload_n (pc := 4) x 0 dX20_isNextBetween_4 rfl rfl ?_
  refine z_get (pc := 5) (fun _ _ h => zAsR_eq h) x in_X20 (ci := 27) rfl (k := 0) (by decide) q2169 (fun _ h => h) dX20_isNextBetween_5 fun v5 => ?_
  refine z_call (pc := 8) (z_canV (pc := 8) (As := []) (st := [zI v1]) x (ci := 15) rfl (fun b => m_J6_length hl (some b)) q2245 q1283 (x.2.2.2.2.1 _ q1284) q119 q1285 n_J6_length ⟨by decide, by decide⟩ (Nat.le_of_ble_eq_true rfl) dX20_isNextBetween_8) (zv_I fun v8 => ?_) (fun q => zx_thr x (fun z hz => (htab z hz).elim) q)
  refine z_icmp_ge (pc := 11) (tgt := 48) x dX20_isNextBetween_11 rfl (fun _ => ?_) (fun _ => ?_)
  · refine z_iconst (pc := 48) x (v := (0 : Int32)) dX20_isNextBetween_48 rfl ?_
    exact z_zret (pc := 49) x hret dX20_isNextBetween_49
  · refine z_iload_n (pc := 14) x 1 dX20_isNextBetween_14 rfl rfl ?_
    refine z_aload_n (pc := 15) x 0 dX20_isNextBetween_15 rfl rfl ?_
    refine z_get (pc := 16) (fun _ _ h => zAsR_eq h) x in_X20 (ci := 27) rfl (k := 0) (by decide) q2169 (fun _ h => h) dX20_isNextBetween_16 fun v16 => ?_
    refine z_aload_n (pc := 19) x 0 dX20_isNextBetween_19 rfl rfl ?_
    refine z_get (pc := 20) (fun _ _ h => zAsI_eq h) x in_X20 (ci := 27) rfl (k := 1) (by decide) q2170 (fun _ h => h) dX20_isNextBetween_20 fun v20 => ?_
    refine z_call (pc := 23) (z_canV (pc := 23) (As := [zI v20]) (st := [zI a1]) x (ci := 15) rfl (fun b => m_J6_charAt hl (some b) v20) q2246 q2247 (x.2.2.2.2.1 _ q2248) q119 q2249 n_J6_charAt ⟨by decide, by decide⟩ (Nat.le_of_ble_eq_true rfl) dX20_isNextBetween_23) (zv_I fun v23 => ?_) (fun q => zx_thr x (fun z hz => (htab z hz).elim) q)
    refine z_icmp_gt (pc := 26) (tgt := 48) x dX20_isNextBetween_26 rfl (fun _ => ?_) (fun _ => ?_)
    · refine z_iconst (pc := 48) x (v := (0 : Int32)) dX20_isNextBetween_48 rfl ?_
      exact z_zret (pc := 49) x hret dX20_isNextBetween_49
    · refine z_aload_n (pc := 29) x 0 dX20_isNextBetween_29 rfl rfl ?_
      refine z_get (pc := 30) (fun _ _ h => zAsR_eq h) x in_X20 (ci := 27) rfl (k := 0) (by decide) q2169 (fun _ h => h) dX20_isNextBetween_30 fun v30 => ?_
      refine z_aload_n (pc := 33) x 0 dX20_isNextBetween_33 rfl rfl ?_
      refine z_get (pc := 34) (fun _ _ h => zAsI_eq h) x in_X20 (ci := 27) rfl (k := 1) (by decide) q2170 (fun _ h => h) dX20_isNextBetween_34 fun v34 => ?_
      refine z_call (pc := 37) (z_canV (pc := 37) (As := [zI v34]) (st := []) x (ci := 15) rfl (fun b => m_J6_charAt hl (some b) v34) q2246 q2247 (x.2.2.2.2.1 _ q2248) q119 q2249 n_J6_charAt ⟨by decide, by decide⟩ (Nat.le_of_ble_eq_true rfl) dX20_isNextBetween_37) (zv_I fun v37 => ?_) (fun q => zx_thr x (fun z hz => (htab z hz).elim) q)
      refine z_iload_n (pc := 40) x 2 dX20_isNextBetween_40 rfl rfl ?_
      refine z_icmp_gt (pc := 41) (tgt := 48) x dX20_isNextBetween_41 rfl (fun _ => ?_) (fun _ => ?_)
      · refine z_iconst (pc := 48) x (v := (0 : Int32)) dX20_isNextBetween_48 rfl ?_
        exact z_zret (pc := 49) x hret dX20_isNextBetween_49
      · refine z_iconst (pc := 44) x (v := (1 : Int32)) dX20_isNextBetween_44 rfl ?_
        refine z_goto (pc := 45) (tgt := 49) x dX20_isNextBetween_45 rfl ?_
        exact z_zret (pc := 49) x hret dX20_isNextBetween_49
/-! X21_init -/
def s_X21_init (E : zE) (a0 : Option Nat) (a1 : Int32) : zM := zXi E a0 1 1 (zSet E a0 1 0 (zVal (zI a1)) (zRet none))
theorem m_X21_init {l : Launch} {E : zE} {D : va_G} {tA : Nat → ClassId} (hl : l.stackTraces = false) (a0 : Option Nat) (a1 : Int32) : zMet l E D tA yX21_init (ws_ yX21_init cX21_init 2 (Option.none : Option Jvm.ClassFile.FieldType)) 9 (s_X21_init E a0 a1) [zP a0, zI a1] := by
  refine z_met hl (by decide +kernel) (by rw [zSl_len]; exact (Nat.le_of_ble_eq_true rfl)) fun p e R s m args below meth c k0 x hret hnm htab => ?_
  refine z_lv [(0, zP a0), (1, zI a1)] rfl ?_
  unfold s_X21_init
  refine z_aload_n (pc := 0) x 0 dX21_init_0 rfl rfl ?_
  refine z_xinit (pc := 1) x (X := "BrambleLogic$SyntaxException") (sup := "java/lang/Exception") (n := 7) (by decide) rfl rfl in_ZX21 tyZX21 tyZX21_ok (jb := 1) (by decide) rfl (by decide +kernel) (by decide +kernel) zx_chE q2277 q2266 q2268 q467 q2269 q2270 q2271 q2273 (by omega) (zSum (k := 0) rfl (by omega)) dX21_init_1 ?_
  refine z_aload_n (pc := 4) x 0 dX21_init_4 rfl rfl ?_
  refine z_iload_n (pc := 5) x 1 dX21_init_5 rfl rfl ?_
  refine z_setF (pc := 6) (v := zI a1) x in_ZX21 tyZX21 tyZX21_ok nmZX21 (ci := 1) rfl (k := 0) (by decide) q2278 (fun _ h => h) rfl hnm rfl rfl rfl dX21_init_6 ?_
  exact z_vret (pc := 9) x hret dX21_init_9
/-! X20_expect -/
def s_X20_expect (E : zE) (a0 : Option Nat) (a1 : Int32) : zM := if a1 = 0 then (zNew 1 7 [.int 0, .null] (fun v4 => zGetI a0 27 1 (fun v9 => zC (zSp v4 (fun b => s_X21_init E (some b) v9)) zThr (zKV (zAth v4 zThr))))) else (zRet none)
theorem m_X20_expect {l : Launch} {E : zE} {D : va_G} {tA : Nat → ClassId} (hl : l.stackTraces = false) (a0 : Option Nat) (a1 : Int32) : zMet l E D tA yX20_expect (ws_ yX20_expect cX20_expect 2 (Option.none : Option Jvm.ClassFile.FieldType)) 10 (s_X20_expect E a0 a1) [zP a0, zI a1] := by
  refine z_met hl (by decide +kernel) (by rw [zSl_len]; exact (Nat.le_of_ble_eq_true rfl)) fun p e R s m args below meth c k0 x hret hnm htab => ?_
  refine z_lv [(0, zP a0), (1, zI a1)] rfl ?_
  unfold s_X20_expect
  refine z_iload_n (pc := 0) x 1 dX20_expect_0 rfl rfl ?_
  refine z_if_ne (pc := 1) (tgt := 16) x dX20_expect_1 rfl (fun _ => ?_) (fun _ => ?_)
  · refine z_new (pc := 4) x in_ZX21 tyZX21 tyZX21_ok q2265 q2266 q160 (ci := 1) rfl (by decide) (by decide +kernel) dX20_expect_4 fun v4 => ?_
    refine z_dup (pc := 7) x dX20_expect_7 rfl ?_
    refine z_aload_n (pc := 8) x 0 dX20_expect_8 rfl rfl ?_
    refine z_get (pc := 9) (fun _ _ h => zAsI_eq h) x in_X20 (ci := 27) rfl (k := 1) (by decide) q2170 (fun _ h => h) dX20_expect_9 fun v9 => ?_
    refine z_call (pc := 12) (z_canI (pc := 12) (ret := none) (As := [zI v9]) (st := [zP v4]) x (fun b => m_X21_init hl (some b) v9) q2274 rfl q2275 q160 q2276 n_X21_init ⟨by decide, by decide⟩ (Nat.le_of_ble_eq_true rfl) dX20_expect_12) (zv_V ?_) (fun q => zx_thr x (fun z hz => (htab z hz).elim) q)
    exact z_athrow (pc := 15) x dX20_expect_15 (fun q => zx_thr x (fun z hz => (htab z hz).elim) q)
  · exact z_vret (pc := 16) x hret dX20_expect_16
/-! X20_accept -/
def s_X20_accept_21 (E : zE) (a2 : Int32) (b0 : Option Nat) (b1 : Int32) (b2 : Int32) : zM := zSet E b0 27 1 (zVal (zI (b1 + b2))) (zRetN .boolean a2)
theorem w_X20_accept_21 (x : zCx p l R s m args meth c E D tA cX20_accept 3 yX20_accept.cls 15) (hl : l.stackTraces = false) (hret : meth.sig.returnType = (Option.some Jvm.ClassFile.FieldType.boolean)) (hnm : meth.name = yX20_accept.name) (htab : ∀ z ∈ c.exceptionTable.toList, False) (a2 : Int32) (b0 : Option Nat) (b1 : Int32) (b2 : Int32) : zW p l e R s m args below meth c E D tA 3 k0 (s_X20_accept_21 E a2 b0 b1 b2) [(2, zI a2)] 21 [zI b2, zI b1, zP b0] := by
  unfold s_X20_accept_21
  refine z_iadd (pc := 21) x dX20_accept_21 ?_
  refine z_set (pc := 22) (v := zI (b1 + b2)) x in_X20 tyX20 tyX20_ok nmX20 (ci := 27) rfl (k := 1) (by decide) q2170 (fun _ h => h) rfl rfl rfl dX20_accept_22 ?_
  refine z_iload_n (pc := 25) x 0 dX20_accept_25 rfl rfl ?_
  exact z_zret (pc := 26) x hret dX20_accept_26
def s_X20_accept (E : zE) (a0 : Option Nat) (a1 : Int32) : zM := zC (zRv a0 [(27, fun b => s_X20_isNextBetween E (some b) a1 a1)]) zThr (zKI (fun v3 => zGetI a0 27 1 (fun v9 => if v3 = 0 then (s_X20_accept_21 E v3 a0 v9 (0 : Int32)) else (s_X20_accept_21 E v3 a0 v9 (1 : Int32)))))
theorem m_X20_accept {l : Launch} {E : zE} {D : va_G} {tA : Nat → ClassId} (hl : l.stackTraces = false) (a0 : Option Nat) (a1 : Int32) : zMet l E D tA yX20_accept (ws_ yX20_accept cX20_accept 3 (Option.some Jvm.ClassFile.FieldType.boolean)) 15 (s_X20_accept E a0 a1) [zP a0, zI a1] := by
  refine z_met hl (by decide +kernel) (by rw [zSl_len]; exact (Nat.le_of_ble_eq_true rfl)) fun p e R s m args below meth c k0 x hret hnm htab => ?_
  refine z_lv [(0, zP a0), (1, zI a1)] rfl ?_
  unfold s_X20_accept
  refine z_aload_n (pc := 0) x 0 dX20_accept_0 rfl rfl ?_
  refine z_iload_n (pc := 1) x 1 dX20_accept_1 rfl rfl ?_
  refine z_iload_n (pc := 2) x 1 dX20_accept_2 rfl rfl ?_
  refine z_call (pc := 3) (z_canV (pc := 3) (As := [zI a1, zI a1]) (st := []) x (ci := 27) rfl (fun b => m_X20_isNextBetween hl (some b) a1 a1) q2241 q2243 (z_selP x (ci := 27) rfl (by decide) (zNi_inst x q2163) q2242 q2243) q158 q2244 n_X20_isNextBetween ⟨by decide, by decide⟩ (Nat.le_of_ble_eq_true rfl) dX20_accept_3) (zv_I fun v3 => ?_) (fun q => zx_thr x (fun z hz => (htab z hz).elim) q)
  refine z_istore_n (pc := 6) (lv' := [(2, zI v3), (0, zP a0), (1, zI a1)]) x dX20_accept_6 rfl (Nat.le_of_ble_eq_true rfl) rfl ?_
  refine z_aload_n (pc := 7) x 1 dX20_accept_7 rfl rfl ?_
  refine z_dup (pc := 8) x dX20_accept_8 rfl ?_
  refine z_get (pc := 9) (fun _ _ h => zAsI_eq h) x in_X20 (ci := 27) rfl (k := 1) (by decide) q2170 (fun _ h => h) dX20_accept_9 fun v9 => ?_
  refine z_iload_n (pc := 12) x 0 dX20_accept_12 rfl rfl ?_
  refine z_if_eq (pc := 13) (tgt := 20) x dX20_accept_13 rfl (fun _ => ?_) (fun _ => ?_)
  · refine z_iconst (pc := 20) x (v := (0 : Int32)) dX20_accept_20 rfl ?_
    exact z_sub [0] rfl (w_X20_accept_21 x hl hret hnm htab v3 a0 v9 (0 : Int32))
  · refine z_iconst (pc := 16) x (v := (1 : Int32)) dX20_accept_16 rfl ?_
    refine z_goto (pc := 17) (tgt := 21) x dX20_accept_17 rfl ?_
    exact z_sub [0] rfl (w_X20_accept_21 x hl hret hnm htab v3 a0 v9 (1 : Int32))
/-! X20_expectText -/
def s_X20_expectText_2 (E : zE) : Nat → Option Nat → Option Nat → Int32 → zM
  | 0, _, _, _ => zFail
  | n + 1, a0, a1, a2 => zC (zRv a1 [(15, fun b => s_J6_length E (some b))]) zThr (zKI (fun v4 => if v4 ≤ a2 then (zRet none) else (zC (zRv a1 [(15, fun b => s_J6_charAt E (some b) a2)]) zThr (zKI (fun v14 => zC (zRv a0 [(27, fun b => s_X20_accept E (some b) v14)]) zThr (zKI (fun v17 => zC (zRv a0 [(27, fun b => s_X20_expect E (some b) v17)]) zThr (zKV ((s_X20_expectText_2 E n) a0 a1 (a2 + (1 : Int32)))))))))))
theorem w_X20_expectText_2 (x : zCx p l R s m args meth c E D tA cX20_expectText 3 yX20_expectText.cls 16) (hl : l.stackTraces = false) (hret : meth.sig.returnType = (Option.none : Option Jvm.ClassFile.FieldType)) (hnm : meth.name = yX20_expectText.name) (htab : ∀ z ∈ c.exceptionTable.toList, False) : ∀ (n : Nat) (a0 : Option Nat) (a1 : Option Nat) (a2 : Int32), zW p l e R s m args below meth c E D tA 3 k0 (s_X20_expectText_2 E n a0 a1 a2) [(0, zP a0), (1, zP a1), (2, zI a2)] 2 [] := by
  intro n
  induction n with
  | zero => intro a0 a1 a2; exact z_fail
  | succ n h2 =>
    intro a0 a1 a2
    rw [s_X20_expectText_2]
    refine z_iload_n (pc := 2) x 2 dX20_expectText_2 rfl rfl ?_
    refine z_aload_n (pc := 3) x 1 dX20_expectText_3 rfl rfl ?_
    refine z_call (pc := 4) (z_canV (pc := 4) (As := []) (st := [zI a2]) x (ci := 15) rfl (fun b => m_J6_length hl (some b)) q2245 q1283 (x.2.2.2.2.1 _ q1284) q119 q1285 n_J6_length ⟨by decide, by decide⟩ (Nat.le_of_ble_eq_true rfl) dX20_expectText_4) (zv_I fun v4 => ?_) (fun q => zx_thr x (fun z hz => (htab z hz).elim) q)
    refine z_icmp_ge (pc := 7) (tgt := 29) x dX20_expectText_7 rfl (fun _ => ?_) (fun _ => ?_)
    · exact z_vret (pc := 29) x hret dX20_expectText_29
    · refine z_aload_n (pc := 10) x 0 dX20_expectText_10 rfl rfl ?_
      refine z_aload_n (pc := 11) x 0 dX20_expectText_11 rfl rfl ?_
      refine z_aload_n (pc := 12) x 1 dX20_expectText_12 rfl rfl ?_
      refine z_iload_n (pc := 13) x 2 dX20_expectText_13 rfl rfl ?_
      refine z_call (pc := 14) (z_canV (pc := 14) (As := [zI a2]) (st := [zP a0, zP a0]) x (ci := 15) rfl (fun b => m_J6_charAt hl (some b) a2) q2246 q2247 (x.2.2.2.2.1 _ q2248) q119 q2249 n_J6_charAt ⟨by decide, by decide⟩ (Nat.le_of_ble_eq_true rfl) dX20_expectText_14) (zv_I fun v14 => ?_) (fun q => zx_thr x (fun z hz => (htab z hz).elim) q)
      refine z_call (pc := 17) (z_canV (pc := 17) (As := [zI v14]) (st := [zP a0]) x (ci := 27) rfl (fun b => m_X20_accept hl (some b) v14) q2289 q2291 (z_selP x (ci := 27) rfl (by decide) (zNi_inst x q2163) q2290 q2291) q158 q2292 n_X20_accept ⟨by decide, by decide⟩ (Nat.le_of_ble_eq_true rfl) dX20_expectText_17) (zv_I fun v17 => ?_) (fun q => zx_thr x (fun z hz => (htab z hz).elim) q)
      refine z_call (pc := 20) (z_canV (pc := 20) (As := [zI v17]) (st := []) x (ci := 27) rfl (fun b => m_X20_expect hl (some b) v17) q2261 q2263 (z_selP x (ci := 27) rfl (by decide) (zNi_inst x q2163) q2262 q2263) q158 q2264 n_X20_expect ⟨by decide, by decide⟩ (Nat.le_of_ble_eq_true rfl) dX20_expectText_20) (zv_V ?_) (fun q => zx_thr x (fun z hz => (htab z hz).elim) q)
      refine z_iinc (pc := 23) (lv' := [(2, zI (a2 + (1 : Int32))), (0, zP a0), (1, zP a1)]) x (v2 := (a2 + (1 : Int32))) 2 dX20_expectText_23 rfl rfl (Nat.le_of_ble_eq_true rfl) rfl ?_
      refine z_goto (pc := 26) (tgt := 2) x dX20_expectText_26 rfl ?_
      exact z_sub [1, 2, 0] rfl (h2 a0 a1 (a2 + (1 : Int32)))
def s_X20_expectText (E : zE) (a0 : Option Nat) (a1 : Option Nat) : zM := s_X20_expectText_2 E zN a0 a1 (0 : Int32)
theorem m_X20_expectText {l : Launch} {E : zE} {D : va_G} {tA : Nat → ClassId} (hl : l.stackTraces = false) (a0 : Option Nat) (a1 : Option Nat) : zMet l E D tA yX20_expectText (ws_ yX20_expectText cX20_expectText 3 (Option.none : Option Jvm.ClassFile.FieldType)) 16 (s_X20_expectText E a0 a1) [zP a0, zP a1] := by
  refine z_met hl (by decide +kernel) (by rw [zSl_len]; exact (Nat.le_of_ble_eq_true rfl)) fun p e R s m args below meth c k0 x hret hnm htab => ?_
  refine z_lv [(0, zP a0), (1, zP a1)] rfl ?_
  unfold s_X20_expectText
  refine z_iconst (pc := 0) x (v := (0 : Int32)) dX20_expectText_0 rfl ?_
  refine z_istore_n (pc := 1) (lv' := [(2, zI (0 : Int32)), (0, zP a0), (1, zP a1)]) x dX20_expectText_1 rfl (Nat.le_of_ble_eq_true rfl) rfl ?_
  exact z_sub [1, 2, 0] rfl (w_X20_expectText_2 x hl hret hnm htab zN a0 a1 (0 : Int32))
/-! X20_parsePredicate -/
def s_X20_parsePredicate (E : zE) (a0 : Option Nat) : zM := zC (zRv a0 [(27, fun b => s_X20_isNextBetween E (some b) (97 : Int32) (104 : Int32))]) zThr (zKI (fun v6 => zC (zRv a0 [(27, fun b => s_X20_expect E (some b) v6)]) zThr (zKV (zGetI a0 27 1 (fun v14 => zSet E a0 27 1 (zVal (zI (v14 + (1 : Int32)))) (zGetR a0 27 0 (fun v23 => zGetI a0 27 1 (fun v27 => zC (zRv v23 [(15, fun b => s_J6_charAt E (some b) (v27 - (1 : Int32)))]) zThr (zKI (fun v32 => zRetN .char v32))))))))))
theorem m_X20_parsePredicate {l : Launch} {E : zE} {D : va_G} {tA : Nat → ClassId} (hl : l.stackTraces = false) (a0 : Option Nat) : zMet l E D tA yX20_parsePredicate (ws_ yX20_parsePredicate cX20_parsePredicate 1 (Option.some Jvm.ClassFile.FieldType.char)) 15 (s_X20_parsePredicate E a0) [zP a0] := by
  refine z_met hl (by decide +kernel) (by rw [zSl_len]; exact (Nat.le_of_ble_eq_true rfl)) fun p e R s m args below meth c k0 x hret hnm htab => ?_
  refine z_lv [(0, zP a0)] rfl ?_
  unfold s_X20_parsePredicate
  refine z_aload_n (pc := 0) x 0 dX20_parsePredicate_0 rfl rfl ?_
  refine z_aload_n (pc := 1) x 0 dX20_parsePredicate_1 rfl rfl ?_
  refine z_bipush (pc := 2) x (v := (97 : Int32)) dX20_parsePredicate_2 rfl ?_
  refine z_bipush (pc := 4) x (v := (104 : Int32)) dX20_parsePredicate_4 rfl ?_
  refine z_call (pc := 6) (z_canV (pc := 6) (As := [zI (97 : Int32), zI (104 : Int32)]) (st := [zP a0]) x (ci := 27) rfl (fun b => m_X20_isNextBetween hl (some b) (97 : Int32) (104 : Int32)) q2241 q2243 (z_selP x (ci := 27) rfl (by decide) (zNi_inst x q2163) q2242 q2243) q158 q2244 n_X20_isNextBetween ⟨by decide, by decide⟩ (Nat.le_of_ble_eq_true rfl) dX20_parsePredicate_6) (zv_I fun v6 => ?_) (fun q => zx_thr x (fun z hz => (htab z hz).elim) q)
  refine z_call (pc := 9) (z_canV (pc := 9) (As := [zI v6]) (st := []) x (ci := 27) rfl (fun b => m_X20_expect hl (some b) v6) q2261 q2263 (z_selP x (ci := 27) rfl (by decide) (zNi_inst x q2163) q2262 q2263) q158 q2264 n_X20_expect ⟨by decide, by decide⟩ (Nat.le_of_ble_eq_true rfl) dX20_parsePredicate_9) (zv_V ?_) (fun q => zx_thr x (fun z hz => (htab z hz).elim) q)
  refine z_aload_n (pc := 12) x 0 dX20_parsePredicate_12 rfl rfl ?_
  refine z_dup (pc := 13) x dX20_parsePredicate_13 rfl ?_
  refine z_get (pc := 14) (fun _ _ h => zAsI_eq h) x in_X20 (ci := 27) rfl (k := 1) (by decide) q2170 (fun _ h => h) dX20_parsePredicate_14 fun v14 => ?_
  refine z_iconst (pc := 17) x (v := (1 : Int32)) dX20_parsePredicate_17 rfl ?_
  refine z_iadd (pc := 18) x dX20_parsePredicate_18 ?_
  refine z_set (pc := 19) (v := zI (v14 + (1 : Int32))) x in_X20 tyX20 tyX20_ok nmX20 (ci := 27) rfl (k := 1) (by decide) q2170 (fun _ h => h) rfl rfl rfl dX20_parsePredicate_19 ?_
  refine z_aload_n (pc := 22) x 0 dX20_parsePredicate_22 rfl rfl ?_
  refine z_get (pc := 23) (fun _ _ h => zAsR_eq h) x in_X20 (ci := 27) rfl (k := 0) (by decide) q2169 (fun _ h => h) dX20_parsePredicate_23 fun v23 => ?_
  refine z_aload_n (pc := 26) x 0 dX20_parsePredicate_26 rfl rfl ?_
  refine z_get (pc := 27) (fun _ _ h => zAsI_eq h) x in_X20 (ci := 27) rfl (k := 1) (by decide) q2170 (fun _ h => h) dX20_parsePredicate_27 fun v27 => ?_
  refine z_iconst (pc := 30) x (v := (1 : Int32)) dX20_parsePredicate_30 rfl ?_
  refine z_isub (pc := 31) x dX20_parsePredicate_31 ?_
  refine z_call (pc := 32) (z_canV (pc := 32) (As := [zI (v27 - (1 : Int32))]) (st := []) x (ci := 15) rfl (fun b => m_J6_charAt hl (some b) (v27 - (1 : Int32))) q2246 q2247 (x.2.2.2.2.1 _ q2248) q119 q2249 n_J6_charAt ⟨by decide, by decide⟩ (Nat.le_of_ble_eq_true rfl) dX20_parsePredicate_32) (zv_I fun v32 => ?_) (fun q => zx_thr x (fun z hz => (htab z hz).elim) q)
  exact z_zret (pc := 35) x hret dX20_parsePredicate_35
/-! X20_parseDigit -/
def s_X20_parseDigit (E : zE) (a0 : Option Nat) : zM := zC (zRv a0 [(27, fun b => s_X20_isNextBetween E (some b) (48 : Int32) (57 : Int32))]) zThr (zKI (fun v6 => zC (zRv a0 [(27, fun b => s_X20_expect E (some b) v6)]) zThr (zKV (zGetI a0 27 1 (fun v14 => zSet E a0 27 1 (zVal (zI (v14 + (1 : Int32)))) (zGetR a0 27 0 (fun v23 => zGetI a0 27 1 (fun v27 => zC (zRv v23 [(15, fun b => s_J6_charAt E (some b) (v27 - (1 : Int32)))]) zThr (zKI (fun v32 => zRet (some (.int (v32 - (48 : Int32))))))))))))))
theorem m_X20_parseDigit {l : Launch} {E : zE} {D : va_G} {tA : Nat → ClassId} (hl : l.stackTraces = false) (a0 : Option Nat) : zMet l E D tA yX20_parseDigit (ws_ yX20_parseDigit cX20_parseDigit 1 (Option.some Jvm.ClassFile.FieldType.int)) 15 (s_X20_parseDigit E a0) [zP a0] := by
  refine z_met hl (by decide +kernel) (by rw [zSl_len]; exact (Nat.le_of_ble_eq_true rfl)) fun p e R s m args below meth c k0 x hret hnm htab => ?_
  refine z_lv [(0, zP a0)] rfl ?_
  unfold s_X20_parseDigit
  refine z_aload_n (pc := 0) x 0 dX20_parseDigit_0 rfl rfl ?_
  refine z_aload_n (pc := 1) x 0 dX20_parseDigit_1 rfl rfl ?_
  refine z_bipush (pc := 2) x (v := (48 : Int32)) dX20_parseDigit_2 rfl ?_
  refine z_bipush (pc := 4) x (v := (57 : Int32)) dX20_parseDigit_4 rfl ?_
  refine z_call (pc := 6) (z_canV (pc := 6) (As := [zI (48 : Int32), zI (57 : Int32)]) (st := [zP a0]) x (ci := 27) rfl (fun b => m_X20_isNextBetween hl (some b) (48 : Int32) (57 : Int32)) q2241 q2243 (z_selP x (ci := 27) rfl (by decide) (zNi_inst x q2163) q2242 q2243) q158 q2244 n_X20_isNextBetween ⟨by decide, by decide⟩ (Nat.le_of_ble_eq_true rfl) dX20_parseDigit_6) (zv_I fun v6 => ?_) (fun q => zx_thr x (fun z hz => (htab z hz).elim) q)
  refine z_call (pc := 9) (z_canV (pc := 9) (As := [zI v6]) (st := []) x (ci := 27) rfl (fun b => m_X20_expect hl (some b) v6) q2261 q2263 (z_selP x (ci := 27) rfl (by decide) (zNi_inst x q2163) q2262 q2263) q158 q2264 n_X20_expect ⟨by decide, by decide⟩ (Nat.le_of_ble_eq_true rfl) dX20_parseDigit_9) (zv_V ?_) (fun q => zx_thr x (fun z hz => (htab z hz).elim) q)
  refine z_aload_n (pc := 12) x 0 dX20_parseDigit_12 rfl rfl ?_
  refine z_dup (pc := 13) x dX20_parseDigit_13 rfl ?_
  refine z_get (pc := 14) (fun _ _ h => zAsI_eq h) x in_X20 (ci := 27) rfl (k := 1) (by decide) q2170 (fun _ h => h) dX20_parseDigit_14 fun v14 => ?_
  refine z_iconst (pc := 17) x (v := (1 : Int32)) dX20_parseDigit_17 rfl ?_
  refine z_iadd (pc := 18) x dX20_parseDigit_18 ?_
  refine z_set (pc := 19) (v := zI (v14 + (1 : Int32))) x in_X20 tyX20 tyX20_ok nmX20 (ci := 27) rfl (k := 1) (by decide) q2170 (fun _ h => h) rfl rfl rfl dX20_parseDigit_19 ?_
  refine z_aload_n (pc := 22) x 0 dX20_parseDigit_22 rfl rfl ?_
  refine z_get (pc := 23) (fun _ _ h => zAsR_eq h) x in_X20 (ci := 27) rfl (k := 0) (by decide) q2169 (fun _ h => h) dX20_parseDigit_23 fun v23 => ?_
  refine z_aload_n (pc := 26) x 0 dX20_parseDigit_26 rfl rfl ?_
  refine z_get (pc := 27) (fun _ _ h => zAsI_eq h) x in_X20 (ci := 27) rfl (k := 1) (by decide) q2170 (fun _ h => h) dX20_parseDigit_27 fun v27 => ?_
  refine z_iconst (pc := 30) x (v := (1 : Int32)) dX20_parseDigit_30 rfl ?_
  refine z_isub (pc := 31) x dX20_parseDigit_31 ?_
  refine z_call (pc := 32) (z_canV (pc := 32) (As := [zI (v27 - (1 : Int32))]) (st := []) x (ci := 15) rfl (fun b => m_J6_charAt hl (some b) (v27 - (1 : Int32))) q2246 q2247 (x.2.2.2.2.1 _ q2248) q119 q2249 n_J6_charAt ⟨by decide, by decide⟩ (Nat.le_of_ble_eq_true rfl) dX20_parseDigit_32) (zv_I fun v32 => ?_) (fun q => zx_thr x (fun z hz => (htab z hz).elim) q)
  refine z_bipush (pc := 35) x (v := (48 : Int32)) dX20_parseDigit_35 rfl ?_
  refine z_isub (pc := 37) x dX20_parseDigit_37 ?_
  exact z_iret (pc := 38) x hret dX20_parseDigit_38
/-! X22_init -/
def s_X22_init (E : zE) (a0 : Option Nat) (a1 : Option Nat) (a2 : Int32) (a3 : Int32) (a4 : Int32) : zM := zSp a0 (fun _ => zSet E a0 28 0 (zVal (zP a1)) (zSetN E .char a0 28 1 a2 (zSet E a0 28 2 (zVal (zI a3)) (zSet E a0 28 3 (zVal (zI a4)) (zRet none)))))
theorem m_X22_init {l : Launch} {E : zE} {D : va_G} {tA : Nat → ClassId} (hl : l.stackTraces = false) (a0 : Option Nat) (a1 : Option Nat) (a2 : Int32) (a3 : Int32) (a4 : Int32) : zMet l E D tA yX22_init (ws_ yX22_init cX22_init 5 (Option.none : Option Jvm.ClassFile.FieldType)) 9 (s_X22_init E a0 a1 a2 a3 a4) [zP a0, zP a1, zI a2, zI a3, zI a4] := by
  refine z_met hl (by decide +kernel) (by rw [zSl_len]; exact (Nat.le_of_ble_eq_true rfl)) fun p e R s m args below meth c k0 x hret hnm htab => ?_
  refine z_lv [(0, zP a0), (1, zP a1), (2, zI a2), (3, zI a3), (4, zI a4)] rfl ?_
  unfold s_X22_init
  refine z_aload_n (pc := 0) x 0 dX22_init_0 rfl rfl ?_
  refine z_objInit (pc := 1) x q2315 q173 q174 (by omega) (zSum (k := 0) rfl (by omega)) dX22_init_1 ?_
  refine z_aload_n (pc := 4) x 0 dX22_init_4 rfl rfl ?_
  refine z_aload_n (pc := 5) x 1 dX22_init_5 rfl rfl ?_
  refine z_setF (pc := 6) (v := zP a1) x in_X22 tyX22 tyX22_ok nmX22 (ci := 28) rfl (k := 0) (by decide) q2316 (fun _ h => h) rfl hnm rfl (zfitR rfl _).1 (zfitR rfl _).2 dX22_init_6 ?_
  refine z_aload_n (pc := 9) x 0 dX22_init_9 rfl rfl ?_
  refine z_iload_n (pc := 10) x 2 dX22_init_10 rfl rfl ?_
  refine z_set_small fun hn hf => ?_
  refine z_setF (pc := 11) (v := zI a2) x in_X22 tyX22 tyX22_ok nmX22 (ci := 28) rfl (k := 1) (by decide) q2317 (fun _ h => h) rfl hnm rfl hn hf dX22_init_11 ?_
  refine z_aload_n (pc := 14) x 0 dX22_init_14 rfl rfl ?_
  refine z_iload_n (pc := 15) x 3 dX22_init_15 rfl rfl ?_
  refine z_setF (pc := 16) (v := zI a3) x in_X22 tyX22 tyX22_ok nmX22 (ci := 28) rfl (k := 2) (by decide) q2318 (fun _ h => h) rfl hnm rfl rfl rfl dX22_init_16 ?_
  refine z_aload_n (pc := 19) x 0 dX22_init_19 rfl rfl ?_
  refine z_iload (pc := 20) x 4 dX22_init_20 rfl ?_
  refine z_setF (pc := 22) (v := zI a4) x in_X22 tyX22 tyX22_ok nmX22 (ci := 28) rfl (k := 3) (by decide) q2319 (fun _ h => h) rfl hnm rfl rfl rfl dX22_init_22 ?_
  exact z_vret (pc := 25) x hret dX22_init_25
/-! X20_parseGround -/
def s_X20_parseGround_41 (E : zE) (a0 : Option Nat) (a1 : Option Nat) (a2 : Int32) (a3 : Int32) (a4 : Int32) : zM := zC (zRv a0 [(27, fun b => s_X20_expectText E (some b) (some (E 38)))]) zThr (zKV (zNew 28 5 [.null, .int 0, .int 0, .int 0, .null] (fun v47 => zC (zSp v47 (fun b => s_X22_init E (some b) a1 a2 a3 a4)) zThr (zKV (zRet (some (va_rf v47)))))))
theorem w_X20_parseGround_41 (x : zCx p l R s m args meth c E D tA cX20_parseGround 5 yX20_parseGround.cls 17) (hl : l.stackTraces = false) (hret : meth.sig.returnType = (Option.some (Jvm.ClassFile.FieldType.object "BrambleLogic$Command"))) (hnm : meth.name = yX20_parseGround.name) (htab : ∀ z ∈ c.exceptionTable.toList, False) (a0 : Option Nat) (a1 : Option Nat) (a2 : Int32) (a3 : Int32) (a4 : Int32) : zW p l e R s m args below meth c E D tA 5 k0 (s_X20_parseGround_41 E a0 a1 a2 a3 a4) [(0, zP a0), (1, zP a1), (2, zI a2), (3, zI a3), (4, zI a4)] 41 [] := by
  unfold s_X20_parseGround_41
  refine z_aload_n (pc := 41) x 0 dX20_parseGround_41 rfl rfl ?_
  refine z_ldcS (pc := 42) x (k := 38) (List.mem_of_getElem? (i := 22) rfl) dX20_parseGround_42 ?_
  refine z_call (pc := 44) (z_canV (pc := 44) (As := [zP (some (E 38))]) (st := []) x (ci := 27) rfl (fun b => m_X20_expectText hl (some b) (some (E 38))) q2285 q2287 (z_selP x (ci := 27) rfl (by decide) (zNi_inst x q2163) q2286 q2287) q158 q2288 n_X20_expectText ⟨by decide, by decide⟩ (Nat.le_of_ble_eq_true rfl) dX20_parseGround_44) (zv_V ?_) (fun q => zx_thr x (fun z hz => (htab z hz).elim) q)
  refine z_new (pc := 47) x in_X22 tyX22 tyX22_ok q2310 q2311 q161 (ci := 28) rfl (by decide) (by decide +kernel) dX20_parseGround_47 fun v47 => ?_
  refine z_dup (pc := 50) x dX20_parseGround_50 rfl ?_
  refine z_aload_n (pc := 51) x 1 dX20_parseGround_51 rfl rfl ?_
  refine z_iload_n (pc := 52) x 2 dX20_parseGround_52 rfl rfl ?_
  refine z_iload_n (pc := 53) x 3 dX20_parseGround_53 rfl rfl ?_
  refine z_iload (pc := 54) x 4 dX20_parseGround_54 rfl ?_
  refine z_call (pc := 56) (z_canI (pc := 56) (ret := none) (As := [zP a1, zI a2, zI a3, zI a4]) (st := [zP v47]) x (fun b => m_X22_init hl (some b) a1 a2 a3 a4) q2312 rfl q2313 q161 q2314 n_X22_init ⟨by decide, by decide⟩ (Nat.le_of_ble_eq_true rfl) dX20_parseGround_56) (zv_V ?_) (fun q => zx_thr x (fun z hz => (htab z hz).elim) q)
  exact z_aret (pc := 59) x hret (Or.inl ⟨_, rfl⟩) dX20_parseGround_59
def s_X20_parseGround (E : zE) (a0 : Option Nat) (a1 : Option Nat) : zM := zC (zRv a0 [(27, fun b => s_X20_parsePredicate E (some b))]) zThr (zKI (fun v1 => zC (zRv a0 [(27, fun b => s_X20_expectText E (some b) (some (E 36)))]) zThr (zKV (zC (zRv a0 [(27, fun b => s_X20_parseDigit E (some b))]) zThr (zKI (fun v12 => zC (s_X1_isPair E (v1 - (97 : Int32))) zThr (zKI (fun v23 => if v23 = 0 then (s_X20_parseGround_41 E a0 a1 v1 v12 (-1 : Int32)) else (zC (zRv a0 [(27, fun b => s_X20_expectText E (some b) (some (E 37)))]) zThr (zKV (zC (zRv a0 [(27, fun b => s_X20_parseDigit E (some b))]) zThr (zKI (fun v36 => s_X20_parseGround_41 E a0 a1 v1 v12 v36)))))))))))))
theorem m_X20_parseGround {l : Launch} {E : zE} {D : va_G} {tA : Nat → ClassId} (hl : l.stackTraces = false) (a0 : Option Nat) (a1 : Option Nat) : zMet l E D tA yX20_parseGround (ws_ yX20_parseGround cX20_parseGround 5 (Option.some (Jvm.ClassFile.FieldType.object "BrambleLogic$Command"))) 17 (s_X20_parseGround E a0 a1) [zP a0, zP a1] := by
  refine z_met hl (by decide +kernel) (by rw [zSl_len]; exact (Nat.le_of_ble_eq_true rfl)) fun p e R s m args below meth c k0 x hret hnm htab => ?_
  refine z_lv [(0, zP a0), (1, zP a1)] rfl ?_
  unfold s_X20_parseGround
  refine z_aload_n (pc := 0) x 0 dX20_parseGround_0 rfl rfl ?_
  refine z_call (pc := 1) (z_canV (pc := 1) (As := []) (st := []) x (ci := 27) rfl (fun b => m_X20_parsePredicate hl (some b)) q2298 q2300 (z_selP x (ci := 27) rfl (by decide) (zNi_inst x q2163) q2299 q2300) q158 q2301 n_X20_parsePredicate ⟨by decide, by decide⟩ (Nat.le_of_ble_eq_true rfl) dX20_parseGround_1) (zv_I fun v1 => ?_) (fun q => zx_thr x (fun z hz => (htab z hz).elim) q)
  refine z_istore_n (pc := 4) (lv' := [(2, zI v1), (0, zP a0), (1, zP a1)]) x dX20_parseGround_4 rfl (Nat.le_of_ble_eq_true rfl) rfl ?_
  refine z_aload_n (pc := 5) x 1 dX20_parseGround_5 rfl rfl ?_
  refine z_ldcS (pc := 6) x (k := 36) (List.mem_of_getElem? (i := 20) rfl) dX20_parseGround_6 ?_
  refine z_call (pc := 8) (z_canV (pc := 8) (As := [zP (some (E 36))]) (st := []) x (ci := 27) rfl (fun b => m_X20_expectText hl (some b) (some (E 36))) q2285 q2287 (z_selP x (ci := 27) rfl (by decide) (zNi_inst x q2163) q2286 q2287) q158 q2288 n_X20_expectText ⟨by decide, by decide⟩ (Nat.le_of_ble_eq_true rfl) dX20_parseGround_8) (zv_V ?_) (fun q => zx_thr x (fun z hz => (htab z hz).elim) q)
  refine z_aload_n (pc := 11) x 1 dX20_parseGround_11 rfl rfl ?_
  refine z_call (pc := 12) (z_canV (pc := 12) (As := []) (st := []) x (ci := 27) rfl (fun b => m_X20_parseDigit hl (some b)) q2303 q2305 (z_selP x (ci := 27) rfl (by decide) (zNi_inst x q2163) q2304 q2305) q158 q2306 n_X20_parseDigit ⟨by decide, by decide⟩ (Nat.le_of_ble_eq_true rfl) dX20_parseGround_12) (zv_I fun v12 => ?_) (fun q => zx_thr x (fun z hz => (htab z hz).elim) q)
  refine z_istore_n (pc := 15) (lv' := [(3, zI v12), (2, zI v1), (0, zP a0), (1, zP a1)]) x dX20_parseGround_15 rfl (Nat.le_of_ble_eq_true rfl) rfl ?_
  refine z_iconst (pc := 16) x (v := (-1 : Int32)) dX20_parseGround_16 rfl ?_
  refine z_istore (pc := 17) (lv' := [(4, zI (-1 : Int32)), (3, zI v12), (2, zI v1), (0, zP a0), (1, zP a1)]) x dX20_parseGround_17 (Nat.le_of_ble_eq_true rfl) rfl ?_
  refine z_iload_n (pc := 19) x 2 dX20_parseGround_19 rfl rfl ?_
  refine z_bipush (pc := 20) x (v := (97 : Int32)) dX20_parseGround_20 rfl ?_
  refine z_isub (pc := 22) x dX20_parseGround_22 ?_
  refine z_call (pc := 23) (z_canSN (pc := 23) (As := [zI (v1 - (97 : Int32))]) (st := []) x (m_X1_isPair hl (v1 - (97 : Int32))) q2307 q807 q108 q808 n_X1_isPair ⟨by decide, by decide⟩ (Nat.le_of_ble_eq_true rfl) dX20_parseGround_23) (zv_I fun v23 => ?_) (fun q => zx_thr x (fun z hz => (htab z hz).elim) q)
  refine z_if_eq (pc := 26) (tgt := 41) x dX20_parseGround_26 rfl (fun _ => ?_) (fun _ => ?_)
  · exact z_sub [3, 4, 2, 1, 0] rfl (w_X20_parseGround_41 x hl hret hnm htab a0 a1 v1 v12 (-1 : Int32))
  · refine z_aload_n (pc := 29) x 3 dX20_parseGround_29 rfl rfl ?_
    refine z_ldcS (pc := 30) x (k := 37) (List.mem_of_getElem? (i := 21) rfl) dX20_parseGround_30 ?_
    refine z_call (pc := 32) (z_canV (pc := 32) (As := [zP (some (E 37))]) (st := []) x (ci := 27) rfl (fun b => m_X20_expectText hl (some b) (some (E 37))) q2285 q2287 (z_selP x (ci := 27) rfl (by decide) (zNi_inst x q2163) q2286 q2287) q158 q2288 n_X20_expectText ⟨by decide, by decide⟩ (Nat.le_of_ble_eq_true rfl) dX20_parseGround_32) (zv_V ?_) (fun q => zx_thr x (fun z hz => (htab z hz).elim) q)
    refine z_aload_n (pc := 35) x 3 dX20_parseGround_35 rfl rfl ?_
    refine z_call (pc := 36) (z_canV (pc := 36) (As := []) (st := []) x (ci := 27) rfl (fun b => m_X20_parseDigit hl (some b)) q2303 q2305 (z_selP x (ci := 27) rfl (by decide) (zNi_inst x q2163) q2304 q2305) q158 q2306 n_X20_parseDigit ⟨by decide, by decide⟩ (Nat.le_of_ble_eq_true rfl) dX20_parseGround_36) (zv_I fun v36 => ?_) (fun q => zx_thr x (fun z hz => (htab z hz).elim) q)
    refine z_istore (pc := 39) (lv' := [(4, zI v36), (3, zI v12), (2, zI v1), (0, zP a0), (1, zP a1)]) x dX20_parseGround_39 (Nat.le_of_ble_eq_true rfl) rfl ?_
    exact z_sub [3, 4, 2, 1, 0] rfl (w_X20_parseGround_41 x hl hret hnm htab a0 a1 v1 v12 v36)
/-! X20_isTerm -/
def s_X20_isTerm (E : zE) (a0 : Option Nat) : zM := zC (zRv a0 [(27, fun b => s_X20_isNextBetween E (some b) (48 : Int32) (57 : Int32))]) zThr (zKI (fun v5 => if v5 = 0 then (zC (zRv a0 [(27, fun b => s_X20_isNextBetween E (some b) (88 : Int32) (90 : Int32))]) zThr (zKI (fun v16 => if v16 = 0 then (zRetN .boolean (0 : Int32)) else (zRetN .boolean (1 : Int32))))) else (zRetN .boolean (1 : Int32))))
theorem m_X20_isTerm {l : Launch} {E : zE} {D : va_G} {tA : Nat → ClassId} (hl : l.stackTraces = false) (a0 : Option Nat) : zMet l E D tA yX20_isTerm (ws_ yX20_isTerm cX20_isTerm 1 (Option.some Jvm.ClassFile.FieldType.boolean)) 15 (s_X20_isTerm E a0) [zP a0] := by
  refine z_met hl (by decide +kernel) (by rw [zSl_len]; exact (Nat.le_of_ble_eq_true rfl)) fun p e R s m args below meth c k0 x hret hnm htab => ?_
  refine z_lv [(0, zP a0)] rfl ?_
  unfold s_X20_isTerm
  refine z_aload_n (pc := 0) x 0 dX20_isTerm_0 rfl rfl ?_
  refine z_bipush (pc := 1) x (v := (48 : Int32)) dX20_isTerm_1 rfl ?_
  refine z_bipush (pc := 3) x (v := (57 : Int32)) dX20_isTerm_3 rfl ?_
  refine z_call (pc := 5) (z_canV (pc := 5) (As := [zI (48 : Int32), zI (57 : Int32)]) (st := []) x (ci := 27) rfl (fun b => m_X20_isNextBetween hl (some b) (48 : Int32) (57 : Int32)) q2241 q2243 (z_selP x (ci := 27) rfl (by decide) (zNi_inst x q2163) q2242 q2243) q158 q2244 n_X20_isNextBetween ⟨by decide, by decide⟩ (Nat.le_of_ble_eq_true rfl) dX20_isTerm_5) (zv_I fun v5 => ?_) (fun q => zx_thr x (fun z hz => (htab z hz).elim) q)
  refine z_if_ne (pc := 8) (tgt := 22) x dX20_isTerm_8 rfl (fun _ => ?_) (fun _ => ?_)
  · refine z_aload_n (pc := 11) x 0 dX20_isTerm_11 rfl rfl ?_
    refine z_bipush (pc := 12) x (v := (88 : Int32)) dX20_isTerm_12 rfl ?_
    refine z_bipush (pc := 14) x (v := (90 : Int32)) dX20_isTerm_14 rfl ?_
    refine z_call (pc := 16) (z_canV (pc := 16) (As := [zI (88 : Int32), zI (90 : Int32)]) (st := []) x (ci := 27) rfl (fun b => m_X20_isNextBetween hl (some b) (88 : Int32) (90 : Int32)) q2241 q2243 (z_selP x (ci := 27) rfl (by decide) (zNi_inst x q2163) q2242 q2243) q158 q2244 n_X20_isNextBetween ⟨by decide, by decide⟩ (Nat.le_of_ble_eq_true rfl) dX20_isTerm_16) (zv_I fun v16 => ?_) (fun q => zx_thr x (fun z hz => (htab z hz).elim) q)
    refine z_if_eq (pc := 19) (tgt := 26) x dX20_isTerm_19 rfl (fun _ => ?_) (fun _ => ?_)
    · refine z_iconst (pc := 26) x (v := (0 : Int32)) dX20_isTerm_26 rfl ?_
      exact z_zret (pc := 27) x hret dX20_isTerm_27
    · refine z_iconst (pc := 22) x (v := (1 : Int32)) dX20_isTerm_22 rfl ?_
      refine z_goto (pc := 23) (tgt := 27) x dX20_isTerm_23 rfl ?_
      exact z_zret (pc := 27) x hret dX20_isTerm_27
  · refine z_iconst (pc := 22) x (v := (1 : Int32)) dX20_isTerm_22 rfl ?_
    refine z_goto (pc := 23) (tgt := 27) x dX20_isTerm_23 rfl ?_
    exact z_zret (pc := 27) x hret dX20_isTerm_27
/-! X20_parseTerm -/
def s_X20_parseTerm (E : zE) (a0 : Option Nat) : zM := zC (zRv a0 [(27, fun b => s_X20_isTerm E (some b))]) zThr (zKI (fun v2 => zC (zRv a0 [(27, fun b => s_X20_expect E (some b) v2)]) zThr (zKV (zGetI a0 27 1 (fun v10 => zSet E a0 27 1 (zVal (zI (v10 + (1 : Int32)))) (zGetR a0 27 0 (fun v19 => zGetI a0 27 1 (fun v23 => zC (zRv v19 [(15, fun b => s_J6_charAt E (some b) (v23 - (1 : Int32)))]) zThr (zKI (fun v28 => if (57 : Int32) < v28 then (zRet (some (.int (((10 : Int32) + v28) - (88 : Int32))))) else (zRet (some (.int (v28 - (48 : Int32)))))))))))))))
theorem m_X20_parseTerm {l : Launch} {E : zE} {D : va_G} {tA : Nat → ClassId} (hl : l.stackTraces = false) (a0 : Option Nat) : zMet l E D tA yX20_parseTerm (ws_ yX20_parseTerm cX20_parseTerm 2 (Option.some Jvm.ClassFile.FieldType.int)) 16 (s_X20_parseTerm E a0) [zP a0] := by
  refine z_met hl (by decide +kernel) (by rw [zSl_len]; exact (Nat.le_of_ble_eq_true rfl)) fun p e R s m args below meth c k0 x hret hnm htab => ?_
  refine z_lv [(0, zP a0)] rfl ?_
  unfold s_X20_parseTerm
  refine z_aload_n (pc := 0) x 0 dX20_parseTerm_0 rfl rfl ?_
  refine z_aload_n (pc := 1) x 0 dX20_parseTerm_1 rfl rfl ?_
  refine z_call (pc := 2) (z_canV (pc := 2) (As := []) (st := [zP a0]) x (ci := 27) rfl (fun b => m_X20_isTerm hl (some b)) q2348 q2350 (z_selP x (ci := 27) rfl (by decide) (zNi_inst x q2163) q2349 q2350) q158 q2351 n_X20_isTerm ⟨by decide, by decide⟩ (Nat.le_of_ble_eq_true rfl) dX20_parseTerm_2) (zv_I fun v2 => ?_) (fun q => zx_thr x (fun z hz => (htab z hz).elim) q)
  refine z_call (pc := 5) (z_canV (pc := 5) (As := [zI v2]) (st := []) x (ci := 27) rfl (fun b => m_X20_expect hl (some b) v2) q2261 q2263 (z_selP x (ci := 27) rfl (by decide) (zNi_inst x q2163) q2262 q2263) q158 q2264 n_X20_expect ⟨by decide, by decide⟩ (Nat.le_of_ble_eq_true rfl) dX20_parseTerm_5) (zv_V ?_) (fun q => zx_thr x (fun z hz => (htab z hz).elim) q)
  refine z_aload_n (pc := 8) x 0 dX20_parseTerm_8 rfl rfl ?_
  refine z_dup (pc := 9) x dX20_parseTerm_9 rfl ?_
  refine z_get (pc := 10) (fun _ _ h => zAsI_eq h) x in_X20 (ci := 27) rfl (k := 1) (by decide) q2170 (fun _ h => h) dX20_parseTerm_10 fun v10 => ?_
  refine z_iconst (pc := 13) x (v := (1 : Int32)) dX20_parseTerm_13 rfl ?_
  refine z_iadd (pc := 14) x dX20_parseTerm_14 ?_
  refine z_set (pc := 15) (v := zI (v10 + (1 : Int32))) x in_X20 tyX20 tyX20_ok nmX20 (ci := 27) rfl (k := 1) (by decide) q2170 (fun _ h => h) rfl rfl rfl dX20_parseTerm_15 ?_
  refine z_aload_n (pc := 18) x 0 dX20_parseTerm_18 rfl rfl ?_
  refine z_get (pc := 19) (fun _ _ h => zAsR_eq h) x in_X20 (ci := 27) rfl (k := 0) (by decide) q2169 (fun _ h => h) dX20_parseTerm_19 fun v19 => ?_
  refine z_aload_n (pc := 22) x 0 dX20_parseTerm_22 rfl rfl ?_
  refine z_get (pc := 23) (fun _ _ h => zAsI_eq h) x in_X20 (ci := 27) rfl (k := 1) (by decide) q2170 (fun _ h => h) dX20_parseTerm_23 fun v23 => ?_
  refine z_iconst (pc := 26) x (v := (1 : Int32)) dX20_parseTerm_26 rfl ?_
  refine z_isub (pc := 27) x dX20_parseTerm_27 ?_
  refine z_call (pc := 28) (z_canV (pc := 28) (As := [zI (v23 - (1 : Int32))]) (st := []) x (ci := 15) rfl (fun b => m_J6_charAt hl (some b) (v23 - (1 : Int32))) q2246 q2247 (x.2.2.2.2.1 _ q2248) q119 q2249 n_J6_charAt ⟨by decide, by decide⟩ (Nat.le_of_ble_eq_true rfl) dX20_parseTerm_28) (zv_I fun v28 => ?_) (fun q => zx_thr x (fun z hz => (htab z hz).elim) q)
  refine z_istore_n (pc := 31) (lv' := [(1, zI v28), (0, zP a0)]) x dX20_parseTerm_31 rfl (Nat.le_of_ble_eq_true rfl) rfl ?_
  refine z_iload_n (pc := 32) x 0 dX20_parseTerm_32 rfl rfl ?_
  refine z_bipush (pc := 33) x (v := (57 : Int32)) dX20_parseTerm_33 rfl ?_
  refine z_icmp_gt (pc := 35) (tgt := 45) x dX20_parseTerm_35 rfl (fun _ => ?_) (fun _ => ?_)
  · refine z_bipush (pc := 45) x (v := (10 : Int32)) dX20_parseTerm_45 rfl ?_
    refine z_iload_n (pc := 47) x 0 dX20_parseTerm_47 rfl rfl ?_
    refine z_iadd (pc := 48) x dX20_parseTerm_48 ?_
    refine z_bipush (pc := 49) x (v := (88 : Int32)) dX20_parseTerm_49 rfl ?_
    refine z_isub (pc := 51) x dX20_parseTerm_51 ?_
    exact z_iret (pc := 52) x hret dX20_parseTerm_52
  · refine z_iload_n (pc := 38) x 0 dX20_parseTerm_38 rfl rfl ?_
    refine z_bipush (pc := 39) x (v := (48 : Int32)) dX20_parseTerm_39 rfl ?_
    refine z_isub (pc := 41) x dX20_parseTerm_41 ?_
    refine z_goto (pc := 42) (tgt := 52) x dX20_parseTerm_42 rfl ?_
    exact z_iret (pc := 52) x hret dX20_parseTerm_52
/-! X9_init -/
def s_X9_init (E : zE) (a0 : Option Nat) (a1 : Int32) (a2 : Int32) (a3 : Int32) : zM := zSp a0 (fun _ => zSet E a0 37 0 (zVal (zI a1)) (zSet E a0 37 1 (zVal (zI a2)) (zSet E a0 37 2 (zVal (zI a3)) (zRet none))))
theorem m_X9_init {l : Launch} {E : zE} {D : va_G} {tA : Nat → ClassId} (hl : l.stackTraces = false) (a0 : Option Nat) (a1 : Int32) (a2 : Int32) (a3 : Int32) : zMet l E D tA yX9_init (ws_ yX9_init cX9_init 4 (Option.none : Option Jvm.ClassFile.FieldType)) 9 (s_X9_init E a0 a1 a2 a3) [zP a0, zI a1, zI a2, zI a3] := by
  refine z_met hl (by decide +kernel) (by rw [zSl_len]; exact (Nat.le_of_ble_eq_true rfl)) fun p e R s m args below meth c k0 x hret hnm htab => ?_
  refine z_lv [(0, zP a0), (1, zI a1), (2, zI a2), (3, zI a3)] rfl ?_
  unfold s_X9_init
  refine z_aload_n (pc := 0) x 0 dX9_init_0 rfl rfl ?_
  refine z_objInit (pc := 1) x q2357 q173 q174 (by omega) (zSum (k := 0) rfl (by omega)) dX9_init_1 ?_
  refine z_aload_n (pc := 4) x 0 dX9_init_4 rfl rfl ?_
  refine z_iload_n (pc := 5) x 1 dX9_init_5 rfl rfl ?_
  refine z_setF (pc := 6) (v := zI a1) x in_X9 tyX9 tyX9_ok nmX9 (ci := 37) rfl (k := 0) (by decide) q2358 (fun _ h => h) rfl hnm rfl rfl rfl dX9_init_6 ?_
  refine z_aload_n (pc := 9) x 0 dX9_init_9 rfl rfl ?_
  refine z_iload_n (pc := 10) x 2 dX9_init_10 rfl rfl ?_
  refine z_setF (pc := 11) (v := zI a2) x in_X9 tyX9 tyX9_ok nmX9 (ci := 37) rfl (k := 1) (by decide) q2369 (fun _ h => h) rfl hnm rfl rfl rfl dX9_init_11 ?_
  refine z_aload_n (pc := 14) x 0 dX9_init_14 rfl rfl ?_
  refine z_iload_n (pc := 15) x 3 dX9_init_15 rfl rfl ?_
  refine z_setF (pc := 16) (v := zI a3) x in_X9 tyX9 tyX9_ok nmX9 (ci := 37) rfl (k := 2) (by decide) q2371 (fun _ h => h) rfl hnm rfl rfl rfl dX9_init_16 ?_
  exact z_vret (pc := 19) x hret dX9_init_19
/-! X20_parseAtom -/
def s_X20_parseAtom_39 (E : zE) (a0 : Option Nat) (a1 : Int32) (a2 : Int32) (a3 : Int32) : zM := zC (zRv a0 [(27, fun b => s_X20_expectText E (some b) (some (E 38)))]) zThr (zKV (zNew 37 3 [.int 0, .int 0, .int 0] (fun v45 => zC (zSp v45 (fun b => s_X9_init E (some b) a1 a2 a3)) zThr (zKV (zRet (some (va_rf v45)))))))
theorem w_X20_parseAtom_39 (x : zCx p l R s m args meth c E D tA cX20_parseAtom 4 yX20_parseAtom.cls 17) (hl : l.stackTraces = false) (hret : meth.sig.returnType = (Option.some (Jvm.ClassFile.FieldType.object "BrambleLogic$Atom"))) (hnm : meth.name = yX20_parseAtom.name) (htab : ∀ z ∈ c.exceptionTable.toList, False) (a0 : Option Nat) (a1 : Int32) (a2 : Int32) (a3 : Int32) : zW p l e R s m args below meth c E D tA 4 k0 (s_X20_parseAtom_39 E a0 a1 a2 a3) [(0, zP a0), (1, zI a1), (2, zI a2), (3, zI a3)] 39 [] := by
  unfold s_X20_parseAtom_39
  refine z_aload_n (pc := 39) x 0 dX20_parseAtom_39 rfl rfl ?_
  refine z_ldcS (pc := 40) x (k := 38) (List.mem_of_getElem? (i := 22) rfl) dX20_parseAtom_40 ?_
  refine z_call (pc := 42) (z_canV (pc := 42) (As := [zP (some (E 38))]) (st := []) x (ci := 27) rfl (fun b => m_X20_expectText hl (some b) (some (E 38))) q2285 q2287 (z_selP x (ci := 27) rfl (by decide) (zNi_inst x q2163) q2286 q2287) q158 q2288 n_X20_expectText ⟨by decide, by decide⟩ (Nat.le_of_ble_eq_true rfl) dX20_parseAtom_42) (zv_V ?_) (fun q => zx_thr x (fun z hz => (htab z hz).elim) q)
  refine z_new (pc := 45) x in_X9 tyX9 tyX9_ok q2352 q2353 q143 (ci := 37) rfl (by decide) (by decide +kernel) dX20_parseAtom_45 fun v45 => ?_
  refine z_dup (pc := 48) x dX20_parseAtom_48 rfl ?_
  refine z_iload_n (pc := 49) x 1 dX20_parseAtom_49 rfl rfl ?_
  refine z_iload_n (pc := 50) x 2 dX20_parseAtom_50 rfl rfl ?_
  refine z_iload_n (pc := 51) x 3 dX20_parseAtom_51 rfl rfl ?_
  refine z_call (pc := 52) (z_canI (pc := 52) (ret := none) (As := [zI a1, zI a2, zI a3]) (st := [zP v45]) x (fun b => m_X9_init hl (some b) a1 a2 a3) q2354 rfl q2355 q143 q2356 n_X9_init ⟨by decide, by decide⟩ (Nat.le_of_ble_eq_true rfl) dX20_parseAtom_52) (zv_V ?_) (fun q => zx_thr x (fun z hz => (htab z hz).elim) q)
  exact z_aret (pc := 55) x hret (Or.inl ⟨_, rfl⟩) dX20_parseAtom_55
def s_X20_parseAtom (E : zE) (a0 : Option Nat) : zM := zC (zRv a0 [(27, fun b => s_X20_parsePredicate E (some b))]) zThr (zKI (fun v1 => zC (zRv a0 [(27, fun b => s_X20_expectText E (some b) (some (E 36)))]) zThr (zKV (zC (zRv a0 [(27, fun b => s_X20_parseTerm E (some b))]) zThr (zKI (fun v15 => zC (s_X1_isPair E (v1 - (97 : Int32))) zThr (zKI (fun v22 => if v22 = 0 then (s_X20_parseAtom_39 E a0 (v1 - (97 : Int32)) v15 (-1 : Int32)) else (zC (zRv a0 [(27, fun b => s_X20_expectText E (some b) (some (E 37)))]) zThr (zKV (zC (zRv a0 [(27, fun b => s_X20_parseTerm E (some b))]) zThr (zKI (fun v35 => s_X20_parseAtom_39 E a0 (v1 - (97 : Int32)) v15 v35)))))))))))))
theorem m_X20_parseAtom {l : Launch} {E : zE} {D : va_G} {tA : Nat → ClassId} (hl : l.stackTraces = false) (a0 : Option Nat) : zMet l E D tA yX20_parseAtom (ws_ yX20_parseAtom cX20_parseAtom 4 (Option.some (Jvm.ClassFile.FieldType.object "BrambleLogic$Atom"))) 17 (s_X20_parseAtom E a0) [zP a0] := by
  refine z_met hl (by decide +kernel) (by rw [zSl_len]; exact (Nat.le_of_ble_eq_true rfl)) fun p e R s m args below meth c k0 x hret hnm htab => ?_
  refine z_lv [(0, zP a0)] rfl ?_
  unfold s_X20_parseAtom
  refine z_aload_n (pc := 0) x 0 dX20_parseAtom_0 rfl rfl ?_
  refine z_call (pc := 1) (z_canV (pc := 1) (As := []) (st := []) x (ci := 27) rfl (fun b => m_X20_parsePredicate hl (some b)) q2298 q2300 (z_selP x (ci := 27) rfl (by decide) (zNi_inst x q2163) q2299 q2300) q158 q2301 n_X20_parsePredicate ⟨by decide, by decide⟩ (Nat.le_of_ble_eq_true rfl) dX20_parseAtom_1) (zv_I fun v1 => ?_) (fun q => zx_thr x (fun z hz => (htab z hz).elim) q)
  refine z_bipush (pc := 4) x (v := (97 : Int32)) dX20_parseAtom_4 rfl ?_
  refine z_isub (pc := 6) x dX20_parseAtom_6 ?_
  refine z_istore_n (pc := 7) (lv' := [(1, zI (v1 - (97 : Int32))), (0, zP a0)]) x dX20_parseAtom_7 rfl (Nat.le_of_ble_eq_true rfl) rfl ?_
  refine z_aload_n (pc := 8) x 1 dX20_parseAtom_8 rfl rfl ?_
  refine z_ldcS (pc := 9) x (k := 36) (List.mem_of_getElem? (i := 20) rfl) dX20_parseAtom_9 ?_
  refine z_call (pc := 11) (z_canV (pc := 11) (As := [zP (some (E 36))]) (st := []) x (ci := 27) rfl (fun b => m_X20_expectText hl (some b) (some (E 36))) q2285 q2287 (z_selP x (ci := 27) rfl (by decide) (zNi_inst x q2163) q2286 q2287) q158 q2288 n_X20_expectText ⟨by decide, by decide⟩ (Nat.le_of_ble_eq_true rfl) dX20_parseAtom_11) (zv_V ?_) (fun q => zx_thr x (fun z hz => (htab z hz).elim) q)
  refine z_aload_n (pc := 14) x 1 dX20_parseAtom_14 rfl rfl ?_
  refine z_call (pc := 15) (z_canV (pc := 15) (As := []) (st := []) x (ci := 27) rfl (fun b => m_X20_parseTerm hl (some b)) q2344 q2346 (z_selP x (ci := 27) rfl (by decide) (zNi_inst x q2163) q2345 q2346) q158 q2347 n_X20_parseTerm ⟨by decide, by decide⟩ (Nat.le_of_ble_eq_true rfl) dX20_parseAtom_15) (zv_I fun v15 => ?_) (fun q => zx_thr x (fun z hz => (htab z hz).elim) q)
  refine z_istore_n (pc := 18) (lv' := [(2, zI v15), (1, zI (v1 - (97 : Int32))), (0, zP a0)]) x dX20_parseAtom_18 rfl (Nat.le_of_ble_eq_true rfl) rfl ?_
  refine z_iconst (pc := 19) x (v := (-1 : Int32)) dX20_parseAtom_19 rfl ?_
  refine z_istore_n (pc := 20) (lv' := [(3, zI (-1 : Int32)), (2, zI v15), (1, zI (v1 - (97 : Int32))), (0, zP a0)]) x dX20_parseAtom_20 rfl (Nat.le_of_ble_eq_true rfl) rfl ?_
  refine z_iload_n (pc := 21) x 2 dX20_parseAtom_21 rfl rfl ?_
  refine z_call (pc := 22) (z_canSN (pc := 22) (As := [zI (v1 - (97 : Int32))]) (st := []) x (m_X1_isPair hl (v1 - (97 : Int32))) q2307 q807 q108 q808 n_X1_isPair ⟨by decide, by decide⟩ (Nat.le_of_ble_eq_true rfl) dX20_parseAtom_22) (zv_I fun v22 => ?_) (fun q => zx_thr x (fun z hz => (htab z hz).elim) q)
  refine z_if_eq (pc := 25) (tgt := 39) x dX20_parseAtom_25 rfl (fun _ => ?_) (fun _ => ?_)
  · exact z_sub [3, 2, 1, 0] rfl (w_X20_parseAtom_39 x hl hret hnm htab a0 (v1 - (97 : Int32)) v15 (-1 : Int32))
  · refine z_aload_n (pc := 28) x 3 dX20_parseAtom_28 rfl rfl ?_
    refine z_ldcS (pc := 29) x (k := 37) (List.mem_of_getElem? (i := 21) rfl) dX20_parseAtom_29 ?_
    refine z_call (pc := 31) (z_canV (pc := 31) (As := [zP (some (E 37))]) (st := []) x (ci := 27) rfl (fun b => m_X20_expectText hl (some b) (some (E 37))) q2285 q2287 (z_selP x (ci := 27) rfl (by decide) (zNi_inst x q2163) q2286 q2287) q158 q2288 n_X20_expectText ⟨by decide, by decide⟩ (Nat.le_of_ble_eq_true rfl) dX20_parseAtom_31) (zv_V ?_) (fun q => zx_thr x (fun z hz => (htab z hz).elim) q)
    refine z_aload_n (pc := 34) x 3 dX20_parseAtom_34 rfl rfl ?_
    refine z_call (pc := 35) (z_canV (pc := 35) (As := []) (st := []) x (ci := 27) rfl (fun b => m_X20_parseTerm hl (some b)) q2344 q2346 (z_selP x (ci := 27) rfl (by decide) (zNi_inst x q2163) q2345 q2346) q158 q2347 n_X20_parseTerm ⟨by decide, by decide⟩ (Nat.le_of_ble_eq_true rfl) dX20_parseAtom_35) (zv_I fun v35 => ?_) (fun q => zx_thr x (fun z hz => (htab z hz).elim) q)
    refine z_istore_n (pc := 38) (lv' := [(3, zI v35), (2, zI v15), (1, zI (v1 - (97 : Int32))), (0, zP a0)]) x dX20_parseAtom_38 rfl (Nat.le_of_ble_eq_true rfl) rfl ?_
    exact z_sub [3, 2, 1, 0] rfl (w_X20_parseAtom_39 x hl hret hnm htab a0 (v1 - (97 : Int32)) v15 v35)
/-! X23_init -/
def s_X23_init (E : zE) (a0 : Option Nat) (a1 : Option Nat) (a2 : Int32) : zM := zSp a0 (fun _ => zSet E a0 29 0 (zVal (zP a1)) (zSetN E .boolean a0 29 1 a2 (zRet none)))
theorem m_X23_init {l : Launch} {E : zE} {D : va_G} {tA : Nat → ClassId} (hl : l.stackTraces = false) (a0 : Option Nat) (a1 : Option Nat) (a2 : Int32) : zMet l E D tA yX23_init (ws_ yX23_init cX23_init 3 (Option.none : Option Jvm.ClassFile.FieldType)) 9 (s_X23_init E a0 a1 a2) [zP a0, zP a1, zI a2] := by
  refine z_met hl (by decide +kernel) (by rw [zSl_len]; exact (Nat.le_of_ble_eq_true rfl)) fun p e R s m args below meth c k0 x hret hnm htab => ?_
  refine z_lv [(0, zP a0), (1, zP a1), (2, zI a2)] rfl ?_
  unfold s_X23_init
  refine z_aload_n (pc := 0) x 0 dX23_init_0 rfl rfl ?_
  refine z_objInit (pc := 1) x q2390 q173 q174 (by omega) (zSum (k := 0) rfl (by omega)) dX23_init_1 ?_
  refine z_aload_n (pc := 4) x 0 dX23_init_4 rfl rfl ?_
  refine z_aload_n (pc := 5) x 1 dX23_init_5 rfl rfl ?_
  refine z_setF (pc := 6) (v := zP a1) x in_X23 tyX23 tyX23_ok nmX23 (ci := 29) rfl (k := 0) (by decide) q2391 (fun _ h => h) rfl hnm rfl (zfitR rfl _).1 (zfitR rfl _).2 dX23_init_6 ?_
  refine z_aload_n (pc := 9) x 0 dX23_init_9 rfl rfl ?_
  refine z_iload_n (pc := 10) x 2 dX23_init_10 rfl rfl ?_
  refine z_set_small fun hn hf => ?_
  refine z_setF (pc := 11) (v := zI a2) x in_X23 tyX23 tyX23_ok nmX23 (ci := 29) rfl (k := 1) (by decide) q2392 (fun _ h => h) rfl hnm rfl hn hf dX23_init_11 ?_
  exact z_vret (pc := 14) x hret dX23_init_14
/-! X24_init -/
def s_X24_init (E : zE) (a0 : Option Nat) (a1 : Int32) (a2 : Int32) (a3 : Int32) : zM := zSp a0 (fun _ => zSet E a0 30 0 (zVal (zI a1)) (zSetN E .char a0 30 2 a2 (zSet E a0 30 1 (zVal (zI a3)) (zRet none))))
theorem m_X24_init {l : Launch} {E : zE} {D : va_G} {tA : Nat → ClassId} (hl : l.stackTraces = false) (a0 : Option Nat) (a1 : Int32) (a2 : Int32) (a3 : Int32) : zMet l E D tA yX24_init (ws_ yX24_init cX24_init 4 (Option.none : Option Jvm.ClassFile.FieldType)) 9 (s_X24_init E a0 a1 a2 a3) [zP a0, zI a1, zI a2, zI a3] := by
  refine z_met hl (by decide +kernel) (by rw [zSl_len]; exact (Nat.le_of_ble_eq_true rfl)) fun p e R s m args below meth c k0 x hret hnm htab => ?_
  refine z_lv [(0, zP a0), (1, zI a1), (2, zI a2), (3, zI a3)] rfl ?_
  unfold s_X24_init
  refine z_aload_n (pc := 0) x 0 dX24_init_0 rfl rfl ?_
  refine z_objInit (pc := 1) x q2403 q173 q174 (by omega) (zSum (k := 0) rfl (by omega)) dX24_init_1 ?_
  refine z_aload_n (pc := 4) x 0 dX24_init_4 rfl rfl ?_
  refine z_iload_n (pc := 5) x 1 dX24_init_5 rfl rfl ?_
  refine z_setF (pc := 6) (v := zI a1) x in_X24 tyX24 tyX24_ok nmX24 (ci := 30) rfl (k := 0) (by decide) q2404 (fun _ h => h) rfl hnm rfl rfl rfl dX24_init_6 ?_
  refine z_aload_n (pc := 9) x 0 dX24_init_9 rfl rfl ?_
  refine z_iload_n (pc := 10) x 2 dX24_init_10 rfl rfl ?_
  refine z_set_small fun hn hf => ?_
  refine z_setF (pc := 11) (v := zI a2) x in_X24 tyX24 tyX24_ok nmX24 (ci := 30) rfl (k := 2) (by decide) q2406 (fun _ h => h) rfl hnm rfl hn hf dX24_init_11 ?_
  refine z_aload_n (pc := 14) x 0 dX24_init_14 rfl rfl ?_
  refine z_iload_n (pc := 15) x 3 dX24_init_15 rfl rfl ?_
  refine z_setF (pc := 16) (v := zI a3) x in_X24 tyX24 tyX24_ok nmX24 (ci := 30) rfl (k := 1) (by decide) q2405 (fun _ h => h) rfl hnm rfl rfl rfl dX24_init_16 ?_
  exact z_vret (pc := 19) x hret dX24_init_19
/-! X20_parseLiteral -/
def s_X20_parseLiteral (E : zE) (a0 : Option Nat) : zM := zC (zRv a0 [(27, fun b => s_X20_accept E (some b) (33 : Int32))]) zThr (zKI (fun v3 => if v3 = 0 then (zC (zRv a0 [(27, fun b => s_X20_isTerm E (some b))]) zThr (zKI (fun v23 => if v23 = 0 then (zNew 29 2 [.null, .int 0] (fun v29 => zC (zRv a0 [(27, fun b => s_X20_parseAtom E (some b))]) zThr (zKR (fun v34 => zC (zSp v29 (fun b => s_X23_init E (some b) v34 (1 : Int32))) zThr (zKV (zRet (some (va_rf v29)))))))) else (zC (zRv a0 [(27, fun b => s_X20_parseTerm E (some b))]) zThr (zKI (fun v43 => zC (zRv a0 [(27, fun b => s_X20_isNextBetween E (some b) (60 : Int32) (61 : Int32))]) zThr (zKI (fun v53 => zC (zRv a0 [(27, fun b => s_X20_expect E (some b) v53)]) zThr (zKV (zGetR a0 27 0 (fun v60 => zGetI a0 27 1 (fun v64 => zC (zRv v60 [(15, fun b => s_J6_charAt E (some b) v64)]) zThr (zKI (fun v67 => zGetI a0 27 1 (fun v73 => zSet E a0 27 1 (zVal (zI (v73 + (1 : Int32)))) (zNew 30 3 [.int 0, .int 0, .int 0] (fun v81 => zC (zRv a0 [(27, fun b => s_X20_parseTerm E (some b))]) zThr (zKI (fun v88 => zC (zSp v81 (fun b => s_X24_init E (some b) v43 v67 v88)) zThr (zKV (zRet (some (va_rf v81))))))))))))))))))))))) else (zNew 29 2 [.null, .int 0] (fun v9 => zC (zRv a0 [(27, fun b => s_X20_parseAtom E (some b))]) zThr (zKR (fun v14 => zC (zSp v9 (fun b => s_X23_init E (some b) v14 (0 : Int32))) zThr (zKV (zRet (some (va_rf v9))))))))))
theorem m_X20_parseLiteral {l : Launch} {E : zE} {D : va_G} {tA : Nat → ClassId} (hl : l.stackTraces = false) (a0 : Option Nat) : zMet l E D tA yX20_parseLiteral (ws_ yX20_parseLiteral cX20_parseLiteral 3 (Option.some (Jvm.ClassFile.FieldType.object "BrambleLogic$Literal"))) 18 (s_X20_parseLiteral E a0) [zP a0] := by
  refine z_met hl (by decide +kernel) (by rw [zSl_len]; exact (Nat.le_of_ble_eq_true rfl)) fun p e R s m args below meth c k0 x hret hnm htab => ?_
  refine z_lv [(0, zP a0)] rfl ?_
  unfold s_X20_parseLiteral
  refine z_aload_n (pc := 0) x 0 dX20_parseLiteral_0 rfl rfl ?_
  refine z_bipush (pc := 1) x (v := (33 : Int32)) dX20_parseLiteral_1 rfl ?_
  refine z_call (pc := 3) (z_canV (pc := 3) (As := [zI (33 : Int32)]) (st := []) x (ci := 27) rfl (fun b => m_X20_accept hl (some b) (33 : Int32)) q2289 q2291 (z_selP x (ci := 27) rfl (by decide) (zNi_inst x q2163) q2290 q2291) q158 q2292 n_X20_accept ⟨by decide, by decide⟩ (Nat.le_of_ble_eq_true rfl) dX20_parseLiteral_3) (zv_I fun v3 => ?_) (fun q => zx_thr x (fun z hz => (htab z hz).elim) q)
  refine z_if_eq (pc := 6) (tgt := 22) x dX20_parseLiteral_6 rfl (fun _ => ?_) (fun _ => ?_)
  · refine z_aload_n (pc := 22) x 0 dX20_parseLiteral_22 rfl rfl ?_
    refine z_call (pc := 23) (z_canV (pc := 23) (As := []) (st := []) x (ci := 27) rfl (fun b => m_X20_isTerm hl (some b)) q2348 q2350 (z_selP x (ci := 27) rfl (by decide) (zNi_inst x q2163) q2349 q2350) q158 q2351 n_X20_isTerm ⟨by decide, by decide⟩ (Nat.le_of_ble_eq_true rfl) dX20_parseLiteral_23) (zv_I fun v23 => ?_) (fun q => zx_thr x (fun z hz => (htab z hz).elim) q)
    refine z_if_ne (pc := 26) (tgt := 42) x dX20_parseLiteral_26 rfl (fun _ => ?_) (fun _ => ?_)
    · refine z_new (pc := 29) x in_X23 tyX23 tyX23_ok q2385 q2386 q162 (ci := 29) rfl (by decide) (by decide +kernel) dX20_parseLiteral_29 fun v29 => ?_
      refine z_dup (pc := 32) x dX20_parseLiteral_32 rfl ?_
      refine z_aload_n (pc := 33) x 0 dX20_parseLiteral_33 rfl rfl ?_
      refine z_call (pc := 34) (z_canV (pc := 34) (As := []) (st := [zP v29, zP v29]) x (ci := 27) rfl (fun b => m_X20_parseAtom hl (some b)) q2340 q2342 (z_selP x (ci := 27) rfl (by decide) (zNi_inst x q2163) q2341 q2342) q158 q2343 n_X20_parseAtom ⟨by decide, by decide⟩ (Nat.le_of_ble_eq_true rfl) dX20_parseLiteral_34) (zv_R fun v34 => ?_) (fun q => zx_thr x (fun z hz => (htab z hz).elim) q)
      refine z_iconst (pc := 37) x (v := (1 : Int32)) dX20_parseLiteral_37 rfl ?_
      refine z_call (pc := 38) (z_canI (pc := 38) (ret := none) (As := [zP v34, zI (1 : Int32)]) (st := [zP v29]) x (fun b => m_X23_init hl (some b) v34 (1 : Int32)) q2387 rfl q2388 q162 q2389 n_X23_init ⟨by decide, by decide⟩ (Nat.le_of_ble_eq_true rfl) dX20_parseLiteral_38) (zv_V ?_) (fun q => zx_thr x (fun z hz => (htab z hz).elim) q)
      exact z_aret (pc := 41) x hret (Or.inl ⟨_, rfl⟩) dX20_parseLiteral_41
    · refine z_aload_n (pc := 42) x 0 dX20_parseLiteral_42 rfl rfl ?_
      refine z_call (pc := 43) (z_canV (pc := 43) (As := []) (st := []) x (ci := 27) rfl (fun b => m_X20_parseTerm hl (some b)) q2344 q2346 (z_selP x (ci := 27) rfl (by decide) (zNi_inst x q2163) q2345 q2346) q158 q2347 n_X20_parseTerm ⟨by decide, by decide⟩ (Nat.le_of_ble_eq_true rfl) dX20_parseLiteral_43) (zv_I fun v43 => ?_) (fun q => zx_thr x (fun z hz => (htab z hz).elim) q)
      refine z_istore_n (pc := 46) (lv' := [(1, zI v43), (0, zP a0)]) x dX20_parseLiteral_46 rfl (Nat.le_of_ble_eq_true rfl) rfl ?_
      refine z_aload_n (pc := 47) x 1 dX20_parseLiteral_47 rfl rfl ?_
      refine z_aload_n (pc := 48) x 1 dX20_parseLiteral_48 rfl rfl ?_
      refine z_bipush (pc := 49) x (v := (60 : Int32)) dX20_parseLiteral_49 rfl ?_
      refine z_bipush (pc := 51) x (v := (61 : Int32)) dX20_parseLiteral_51 rfl ?_
      refine z_call (pc := 53) (z_canV (pc := 53) (As := [zI (60 : Int32), zI (61 : Int32)]) (st := [zP a0]) x (ci := 27) rfl (fun b => m_X20_isNextBetween hl (some b) (60 : Int32) (61 : Int32)) q2241 q2243 (z_selP x (ci := 27) rfl (by decide) (zNi_inst x q2163) q2242 q2243) q158 q2244 n_X20_isNextBetween ⟨by decide, by decide⟩ (Nat.le_of_ble_eq_true rfl) dX20_parseLiteral_53) (zv_I fun v53 => ?_) (fun q => zx_thr x (fun z hz => (htab z hz).elim) q)
      refine z_call (pc := 56) (z_canV (pc := 56) (As := [zI v53]) (st := []) x (ci := 27) rfl (fun b => m_X20_expect hl (some b) v53) q2261 q2263 (z_selP x (ci := 27) rfl (by decide) (zNi_inst x q2163) q2262 q2263) q158 q2264 n_X20_expect ⟨by decide, by decide⟩ (Nat.le_of_ble_eq_true rfl) dX20_parseLiteral_56) (zv_V ?_) (fun q => zx_thr x (fun z hz => (htab z hz).elim) q)
      refine z_aload_n (pc := 59) x 1 dX20_parseLiteral_59 rfl rfl ?_
      refine z_get (pc := 60) (fun _ _ h => zAsR_eq h) x in_X20 (ci := 27) rfl (k := 0) (by decide) q2169 (fun _ h => h) dX20_parseLiteral_60 fun v60 => ?_
      refine z_aload_n (pc := 63) x 1 dX20_parseLiteral_63 rfl rfl ?_
      refine z_get (pc := 64) (fun _ _ h => zAsI_eq h) x in_X20 (ci := 27) rfl (k := 1) (by decide) q2170 (fun _ h => h) dX20_parseLiteral_64 fun v64 => ?_
      refine z_call (pc := 67) (z_canV (pc := 67) (As := [zI v64]) (st := []) x (ci := 15) rfl (fun b => m_J6_charAt hl (some b) v64) q2246 q2247 (x.2.2.2.2.1 _ q2248) q119 q2249 n_J6_charAt ⟨by decide, by decide⟩ (Nat.le_of_ble_eq_true rfl) dX20_parseLiteral_67) (zv_I fun v67 => ?_) (fun q => zx_thr x (fun z hz => (htab z hz).elim) q)
      refine z_istore_n (pc := 70) (lv' := [(2, zI v67), (1, zI v43), (0, zP a0)]) x dX20_parseLiteral_70 rfl (Nat.le_of_ble_eq_true rfl) rfl ?_
      refine z_aload_n (pc := 71) x 2 dX20_parseLiteral_71 rfl rfl ?_
      refine z_dup (pc := 72) x dX20_parseLiteral_72 rfl ?_
      refine z_get (pc := 73) (fun _ _ h => zAsI_eq h) x in_X20 (ci := 27) rfl (k := 1) (by decide) q2170 (fun _ h => h) dX20_parseLiteral_73 fun v73 => ?_
      refine z_iconst (pc := 76) x (v := (1 : Int32)) dX20_parseLiteral_76 rfl ?_
      refine z_iadd (pc := 77) x dX20_parseLiteral_77 ?_
      refine z_set (pc := 78) (v := zI (v73 + (1 : Int32))) x in_X20 tyX20 tyX20_ok nmX20 (ci := 27) rfl (k := 1) (by decide) q2170 (fun _ h => h) rfl rfl rfl dX20_parseLiteral_78 ?_
      refine z_new (pc := 81) x in_X24 tyX24 tyX24_ok q2398 q2399 q163 (ci := 30) rfl (by decide) (by decide +kernel) dX20_parseLiteral_81 fun v81 => ?_
      refine z_dup (pc := 84) x dX20_parseLiteral_84 rfl ?_
      refine z_iload_n (pc := 85) x 1 dX20_parseLiteral_85 rfl rfl ?_
      refine z_iload_n (pc := 86) x 0 dX20_parseLiteral_86 rfl rfl ?_
      refine z_aload_n (pc := 87) x 2 dX20_parseLiteral_87 rfl rfl ?_
      refine z_call (pc := 88) (z_canV (pc := 88) (As := []) (st := [zI v67, zI v43, zP v81, zP v81]) x (ci := 27) rfl (fun b => m_X20_parseTerm hl (some b)) q2344 q2346 (z_selP x (ci := 27) rfl (by decide) (zNi_inst x q2163) q2345 q2346) q158 q2347 n_X20_parseTerm ⟨by decide, by decide⟩ (Nat.le_of_ble_eq_true rfl) dX20_parseLiteral_88) (zv_I fun v88 => ?_) (fun q => zx_thr x (fun z hz => (htab z hz).elim) q)
      refine z_call (pc := 91) (z_canI (pc := 91) (ret := none) (As := [zI v43, zI v67, zI v88]) (st := [zP v81]) x (fun b => m_X24_init hl (some b) v43 v67 v88) q2400 rfl q2401 q163 q2402 n_X24_init ⟨by decide, by decide⟩ (Nat.le_of_ble_eq_true rfl) dX20_parseLiteral_91) (zv_V ?_) (fun q => zx_thr x (fun z hz => (htab z hz).elim) q)
      exact z_aret (pc := 94) x hret (Or.inl ⟨_, rfl⟩) dX20_parseLiteral_94
  · refine z_new (pc := 9) x in_X23 tyX23 tyX23_ok q2385 q2386 q162 (ci := 29) rfl (by decide) (by decide +kernel) dX20_parseLiteral_9 fun v9 => ?_
    refine z_dup (pc := 12) x dX20_parseLiteral_12 rfl ?_
    refine z_aload_n (pc := 13) x 0 dX20_parseLiteral_13 rfl rfl ?_
    refine z_call (pc := 14) (z_canV (pc := 14) (As := []) (st := [zP v9, zP v9]) x (ci := 27) rfl (fun b => m_X20_parseAtom hl (some b)) q2340 q2342 (z_selP x (ci := 27) rfl (by decide) (zNi_inst x q2163) q2341 q2342) q158 q2343 n_X20_parseAtom ⟨by decide, by decide⟩ (Nat.le_of_ble_eq_true rfl) dX20_parseLiteral_14) (zv_R fun v14 => ?_) (fun q => zx_thr x (fun z hz => (htab z hz).elim) q)
    refine z_iconst (pc := 17) x (v := (0 : Int32)) dX20_parseLiteral_17 rfl ?_
    refine z_call (pc := 18) (z_canI (pc := 18) (ret := none) (As := [zP v14, zI (0 : Int32)]) (st := [zP v9]) x (fun b => m_X23_init hl (some b) v14 (0 : Int32)) q2387 rfl q2388 q162 q2389 n_X23_init ⟨by decide, by decide⟩ (Nat.le_of_ble_eq_true rfl) dX20_parseLiteral_18) (zv_V ?_) (fun q => zx_thr x (fun z hz => (htab z hz).elim) q)
    exact z_aret (pc := 21) x hret (Or.inl ⟨_, rfl⟩) dX20_parseLiteral_21
/-! J17_checkFromToIndex -/
def s_J17_checkFromToIndex (E : zE) (a0 : Int32) (a1 : Int32) (a2 : Int32) (a3 : Option Nat) : zM := if a0 < 0 then zFail else (if a1 < a0 then zFail else (if a1 ≤ a2 then (zRet (some (.int a0))) else zFail))
theorem m_J17_checkFromToIndex {l : Launch} {E : zE} {D : va_G} {tA : Nat → ClassId} (hl : l.stackTraces = false) (a0 : Int32) (a1 : Int32) (a2 : Int32) (a3 : Option Nat) : zMet l E D tA yJ17_checkFromToIndex (ws_ yJ17_checkFromToIndex cJ17_checkFromToIndex 4 (Option.some Jvm.ClassFile.FieldType.int)) 9 (s_J17_checkFromToIndex E a0 a1 a2 a3) [zI a0, zI a1, zI a2, zP a3] := by
  refine z_met hl (by decide +kernel) (by rw [zSl_len]; exact (Nat.le_of_ble_eq_true rfl)) fun p e R s m args below meth c k0 x hret hnm htab => ?_
  refine z_lv [(0, zI a0), (1, zI a1), (2, zI a2), (3, zP a3)] rfl ?_
  unfold s_J17_checkFromToIndex
  refine z_iload_n (pc := 0) x 0 dJ17_checkFromToIndex_0 rfl rfl ?_
  refine z_if_lt (pc := 1) (tgt := 14) x dJ17_checkFromToIndex_1 rfl (fun _ => ?_) (fun _ => ?_)
  · exact z_fail
  · refine z_iload_n (pc := 4) x 0 dJ17_checkFromToIndex_4 rfl rfl ?_
    refine z_iload_n (pc := 5) x 1 dJ17_checkFromToIndex_5 rfl rfl ?_
    refine z_icmp_gt (pc := 6) (tgt := 14) x dJ17_checkFromToIndex_6 rfl (fun _ => ?_) (fun _ => ?_)
    · exact z_fail
    · refine z_iload_n (pc := 9) x 1 dJ17_checkFromToIndex_9 rfl rfl ?_
      refine z_iload_n (pc := 10) x 2 dJ17_checkFromToIndex_10 rfl rfl ?_
      refine z_icmp_le (pc := 11) (tgt := 22) x dJ17_checkFromToIndex_11 rfl (fun _ => ?_) (fun _ => ?_)
      · refine z_iload_n (pc := 22) x 0 dJ17_checkFromToIndex_22 rfl rfl ?_
        exact z_iret (pc := 23) x hret dJ17_checkFromToIndex_23
      · exact z_fail
/-! J6_checkBoundsBeginEnd -/
def s_J6_checkBoundsBeginEnd (E : zE) (a0 : Int32) (a1 : Int32) (a2 : Int32) : zM := zC (s_J17_checkFromToIndex E a0 a1 a2 (zOpt E 8)) zThr (zKI (fun v6 => zRet none))
theorem m_J6_checkBoundsBeginEnd {l : Launch} {E : zE} {D : va_G} {tA : Nat → ClassId} (hl : l.stackTraces = false) (a0 : Int32) (a1 : Int32) (a2 : Int32) : zMet l E D tA yJ6_checkBoundsBeginEnd (ws_ yJ6_checkBoundsBeginEnd cJ6_checkBoundsBeginEnd 3 (Option.none : Option Jvm.ClassFile.FieldType)) 10 (s_J6_checkBoundsBeginEnd E a0 a1 a2) [zI a0, zI a1, zI a2] := by
  refine z_met hl (by decide +kernel) (by rw [zSl_len]; exact (Nat.le_of_ble_eq_true rfl)) fun p e R s m args below meth c k0 x hret hnm htab => ?_
  refine z_lv [(0, zI a0), (1, zI a1), (2, zI a2)] rfl ?_
  unfold s_J6_checkBoundsBeginEnd
  refine z_iload_n (pc := 0) x 0 dJ6_checkBoundsBeginEnd_0 rfl rfl ?_
  refine z_iload_n (pc := 1) x 1 dJ6_checkBoundsBeginEnd_1 rfl rfl ?_
  refine z_iload_n (pc := 2) x 2 dJ6_checkBoundsBeginEnd_2 rfl rfl ?_
  refine z_staQ (pc := 3) x (k := 8) (by decide) q1268 dJ6_checkBoundsBeginEnd_3 ?_
  refine z_call (pc := 6) (z_canS (pc := 6) (As := [zI a0, zI a1, zI a2, zP (zOpt E 8)]) (st := []) x (m_J17_checkFromToIndex hl a0 a1 a2 (zOpt E 8)) q1270 q1271 q132 q1272 n_J17_checkFromToIndex ⟨by decide, by decide⟩ (Nat.le_of_ble_eq_true rfl) dJ6_checkBoundsBeginEnd_6) (zv_I fun v6 => ?_) (fun q => zx_thr x (fun z hz => (htab z hz).elim) q)
  refine z_pop (pc := 9) x dJ6_checkBoundsBeginEnd_9 rfl ?_
  exact z_vret (pc := 10) x hret dJ6_checkBoundsBeginEnd_10
/-! J6_init_3 -/
def s_J6_init_3 (E : zE) (a0 : Option Nat) (a1 : Option Nat) (a2 : Int32) : zM := zSp a0 (fun _ => zSet E a0 15 0 (zVal (zP a1)) (zSetN E .byte a0 15 1 a2 (zRet none)))
theorem m_J6_init_3 {l : Launch} {E : zE} {D : va_G} {tA : Nat → ClassId} (hl : l.stackTraces = false) (a0 : Option Nat) (a1 : Option Nat) (a2 : Int32) : zMet l E D tA yJ6_init_3 (ws_ yJ6_init_3 cJ6_init_3 3 (Option.none : Option Jvm.ClassFile.FieldType)) 9 (s_J6_init_3 E a0 a1 a2) [zP a0, zP a1, zI a2] := by
  refine z_met hl (by decide +kernel) (by rw [zSl_len]; exact (Nat.le_of_ble_eq_true rfl)) fun p e R s m args below meth c k0 x hret hnm htab => ?_
  refine z_lv [(0, zP a0), (1, zP a1), (2, zI a2)] rfl ?_
  unfold s_J6_init_3
  refine z_aload_n (pc := 0) x 0 dJ6_init_3_0 rfl rfl ?_
  refine z_objInit (pc := 1) x q1385 q173 q174 (by omega) (zSum (k := 0) rfl (by omega)) dJ6_init_3_1 ?_
  refine z_aload_n (pc := 4) x 0 dJ6_init_3_4 rfl rfl ?_
  refine z_aload_n (pc := 5) x 1 dJ6_init_3_5 rfl rfl ?_
  refine z_setF (pc := 6) (v := zP a1) x in_J6 tyJ6 tyJ6_ok nmJ6 (ci := 15) rfl (k := 0) (by decide) q1436 (fun _ h => h) rfl hnm rfl (zfitR rfl _).1 (zfitR rfl _).2 dJ6_init_3_6 ?_
  refine z_aload_n (pc := 9) x 0 dJ6_init_3_9 rfl rfl ?_
  refine z_iload_n (pc := 10) x 2 dJ6_init_3_10 rfl rfl ?_
  refine z_set_small fun hn hf => ?_
  refine z_setF (pc := 11) (v := zI a2) x in_J6 tyJ6 tyJ6_ok nmJ6 (ci := 15) rfl (k := 1) (by decide) q1437 (fun _ h => h) rfl hnm rfl hn hf dJ6_init_3_11 ?_
  exact z_vret (pc := 14) x hret dJ6_init_3_14
/-! J18_newString -/
def s_J18_newString (E : zE) (a0 : Option Nat) (a1 : Int32) (a2 : Int32) : zM := if a2 = 0 then (zRet (some (va_rf (some (E 17))))) else (zNew 15 4 [.null, .int 0, .int 0, .int 0] (fun v7 => zC (s_J8_copyOfRange E a0 a1 (a1 + a2)) zThr (zKR (fun v16 => zC (zSp v7 (fun b => s_J6_init_3 E (some b) v16 (0 : Int32))) zThr (zKV (zRet (some (va_rf v7))))))))
theorem m_J18_newString {l : Launch} {E : zE} {D : va_G} {tA : Nat → ClassId} (hl : l.stackTraces = false) (a0 : Option Nat) (a1 : Int32) (a2 : Int32) : zMet l E D tA yJ18_newString (ws_ yJ18_newString cJ18_newString 3 (Option.some (Jvm.ClassFile.FieldType.object "java/lang/String"))) 12 (s_J18_newString E a0 a1 a2) [zP a0, zI a1, zI a2] := by
  refine z_met hl (by decide +kernel) (by rw [zSl_len]; exact (Nat.le_of_ble_eq_true rfl)) fun p e R s m args below meth c k0 x hret hnm htab => ?_
  refine z_lv [(0, zP a0), (1, zI a1), (2, zI a2)] rfl ?_
  unfold s_J18_newString
  refine z_iload_n (pc := 0) x 2 dJ18_newString_0 rfl rfl ?_
  refine z_if_ne (pc := 1) (tgt := 7) x dJ18_newString_1 rfl (fun _ => ?_) (fun _ => ?_)
  · refine z_ldcS (pc := 4) x (k := 17) (List.mem_of_getElem? (i := 1) rfl) dJ18_newString_4 ?_
    exact z_aret (pc := 6) x hret (Or.inl ⟨_, rfl⟩) dJ18_newString_6
  · refine z_new (pc := 7) x in_J6 tyJ6 tyJ6_ok q2431 q1378 q119 (ci := 15) rfl (by decide) (by decide +kernel) dJ18_newString_7 fun v7 => ?_
    refine z_dup (pc := 10) x dJ18_newString_10 rfl ?_
    refine z_aload_n (pc := 11) x 0 dJ18_newString_11 rfl rfl ?_
    refine z_iload_n (pc := 12) x 1 dJ18_newString_12 rfl rfl ?_
    refine z_iload_n (pc := 13) x 1 dJ18_newString_13 rfl rfl ?_
    refine z_iload_n (pc := 14) x 2 dJ18_newString_14 rfl rfl ?_
    refine z_iadd (pc := 15) x dJ18_newString_15 ?_
    refine z_call (pc := 16) (z_canS (pc := 16) (As := [zP a0, zI a1, zI (a1 + a2)]) (st := [zP v7, zP v7]) x (m_J8_copyOfRange hl a0 a1 (a1 + a2)) q2432 q1394 q122 q1395 n_J8_copyOfRange ⟨by decide, by decide⟩ (Nat.le_of_ble_eq_true rfl) dJ18_newString_16) (zv_R fun v16 => ?_) (fun q => zx_thr x (fun z hz => (htab z hz).elim) q)
    refine z_iconst (pc := 19) x (v := (0 : Int32)) dJ18_newString_19 rfl ?_
    refine z_call (pc := 20) (z_canI (pc := 20) (ret := none) (As := [zP v16, zI (0 : Int32)]) (st := [zP v7]) x (fun b => m_J6_init_3 hl (some b) v16 (0 : Int32)) q2433 rfl q2434 q119 q2435 n_J6_init_3 ⟨by decide, by decide⟩ (Nat.le_of_ble_eq_true rfl) dJ18_newString_20) (zv_V ?_) (fun q => zx_thr x (fun z hz => (htab z hz).elim) q)
    exact z_aret (pc := 23) x hret (Or.inl ⟨_, rfl⟩) dJ18_newString_23
/-! J7_newString -/
def s_J7_newString (E : zE) (a0 : Option Nat) (a1 : Int32) (a2 : Int32) : zM := if a2 = 0 then (zRet (some (va_rf (some (E 22))))) else (if (1 : Int32) = 0 then (zNew 15 4 [.null, .int 0, .int 0, .int 0] (fun v43 => zC (s_J8_copyOfRange E a0 (a1 <<< ((1 : Int32) &&& 31)) ((a1 + a2) <<< ((1 : Int32) &&& 31))) zThr (zKR (fun v54 => zC (zSp v43 (fun b => s_J6_init_3 E (some b) v54 (1 : Int32))) zThr (zKV (zRet (some (va_rf v43)))))))) else (zC (s_J7_compress E a0 a1 a2) zThr (zKR (fun v17 => zC (s_J7_coderFromArrayLen E v17 a2) zThr (zKI (fun v23 => zNew 15 4 [.null, .int 0, .int 0, .int 0] (fun v28 => zC (zSp v28 (fun b => s_J6_init_3 E (some b) v17 v23)) zThr (zKV (zRet (some (va_rf v28)))))))))))
theorem m_J7_newString {l : Launch} {E : zE} {D : va_G} {tA : Nat → ClassId} (hl : l.stackTraces = false) (a0 : Option Nat) (a1 : Int32) (a2 : Int32) : zMet l E D tA yJ7_newString (ws_ yJ7_newString cJ7_newString 5 (Option.some (Jvm.ClassFile.FieldType.object "java/lang/String"))) 14 (s_J7_newString E a0 a1 a2) [zP a0, zI a1, zI a2] := by
  refine z_met hl (by decide +kernel) (by rw [zSl_len]; exact (Nat.le_of_ble_eq_true rfl)) fun p e R s m args below meth c k0 x hret hnm htab => ?_
  refine z_lv [(0, zP a0), (1, zI a1), (2, zI a2)] rfl ?_
  unfold s_J7_newString
  refine z_iload_n (pc := 0) x 2 dJ7_newString_0 rfl rfl ?_
  refine z_if_ne (pc := 1) (tgt := 8) x dJ7_newString_1 rfl (fun _ => ?_) (fun _ => ?_)
  · refine z_ldcwS (pc := 4) x (k := 22) (List.mem_of_getElem? (i := 6) rfl) dJ7_newString_4 ?_
    exact z_aret (pc := 7) x hret (Or.inl ⟨_, rfl⟩) dJ7_newString_7
  · refine z_staI (pc := 8) x (v := (1 : Int32)) (by decide) q2440 dJ7_newString_8 ?_
    refine z_if_eq (pc := 11) (tgt := 39) x dJ7_newString_11 rfl (fun _ => ?_) (fun _ => ?_)
    · refine z_iload_n (pc := 39) x 1 dJ7_newString_39 rfl rfl ?_
      refine z_iload_n (pc := 40) x 2 dJ7_newString_40 rfl rfl ?_
      refine z_iadd (pc := 41) x dJ7_newString_41 ?_
      refine z_istore_n (pc := 42) (lv' := [(3, zI (a1 + a2)), (0, zP a0), (1, zI a1), (2, zI a2)]) x dJ7_newString_42 rfl (Nat.le_of_ble_eq_true rfl) rfl ?_
      refine z_new (pc := 43) x in_J6 tyJ6 tyJ6_ok q2443 q1378 q119 (ci := 15) rfl (by decide) (by decide +kernel) dJ7_newString_43 fun v43 => ?_
      refine z_dup (pc := 46) x dJ7_newString_46 rfl ?_
      refine z_aload_n (pc := 47) x 1 dJ7_newString_47 rfl rfl ?_
      refine z_iload_n (pc := 48) x 2 dJ7_newString_48 rfl rfl ?_
      refine z_iconst (pc := 49) x (v := (1 : Int32)) dJ7_newString_49 rfl ?_
      refine z_ishl (pc := 50) x dJ7_newString_50 ?_
      refine z_iload_n (pc := 51) x 0 dJ7_newString_51 rfl rfl ?_
      refine z_iconst (pc := 52) x (v := (1 : Int32)) dJ7_newString_52 rfl ?_
      refine z_ishl (pc := 53) x dJ7_newString_53 ?_
      refine z_call (pc := 54) (z_canS (pc := 54) (As := [zP a0, zI (a1 <<< ((1 : Int32) &&& 31)), zI ((a1 + a2) <<< ((1 : Int32) &&& 31))]) (st := [zP v43, zP v43]) x (m_J8_copyOfRange hl a0 (a1 <<< ((1 : Int32) &&& 31)) ((a1 + a2) <<< ((1 : Int32) &&& 31))) q1432 q1394 q122 q1395 n_J8_copyOfRange ⟨by decide, by decide⟩ (Nat.le_of_ble_eq_true rfl) dJ7_newString_54) (zv_R fun v54 => ?_) (fun q => zx_thr x (fun z hz => (htab z hz).elim) q)
      refine z_iconst (pc := 57) x (v := (1 : Int32)) dJ7_newString_57 rfl ?_
      refine z_call (pc := 58) (z_canI (pc := 58) (ret := none) (As := [zP v54, zI (1 : Int32)]) (st := [zP v43]) x (fun b => m_J6_init_3 hl (some b) v54 (1 : Int32)) q2444 rfl q2434 q119 q2435 n_J6_init_3 ⟨by decide, by decide⟩ (Nat.le_of_ble_eq_true rfl) dJ7_newString_58) (zv_V ?_) (fun q => zx_thr x (fun z hz => (htab z hz).elim) q)
      exact z_aret (pc := 61) x hret (Or.inl ⟨_, rfl⟩) dJ7_newString_61
    · refine z_aload_n (pc := 14) x 0 dJ7_newString_14 rfl rfl ?_
      refine z_iload_n (pc := 15) x 1 dJ7_newString_15 rfl rfl ?_
      refine z_iload_n (pc := 16) x 2 dJ7_newString_16 rfl rfl ?_
      refine z_call (pc := 17) (z_canS (pc := 17) (As := [zP a0, zI a1, zI a2]) (st := []) x (m_J7_compress hl a0 a1 a2) q2441 q1424 q120 q1425 n_J7_compress ⟨by decide, by decide⟩ (Nat.le_of_ble_eq_true rfl) dJ7_newString_17) (zv_R fun v17 => ?_) (fun q => zx_thr x (fun z hz => (htab z hz).elim) q)
      refine z_astore_n (pc := 20) (lv' := [(3, zP v17), (0, zP a0), (1, zI a1), (2, zI a2)]) x dJ7_newString_20 rfl (Nat.le_of_ble_eq_true rfl) rfl ?_
      refine z_aload_n (pc := 21) x 0 dJ7_newString_21 rfl rfl ?_
      refine z_iload_n (pc := 22) x 3 dJ7_newString_22 rfl rfl ?_
      refine z_call (pc := 23) (z_canS (pc := 23) (As := [zP v17, zI a2]) (st := []) x (m_J7_coderFromArrayLen hl v17 a2) q2442 q1434 q120 q1435 n_J7_coderFromArrayLen ⟨by decide, by decide⟩ (Nat.le_of_ble_eq_true rfl) dJ7_newString_23) (zv_I fun v23 => ?_) (fun q => zx_thr x (fun z hz => (htab z hz).elim) q)
      refine z_istore (pc := 26) (lv' := [(4, zI v23), (3, zP v17), (0, zP a0), (1, zI a1), (2, zI a2)]) x dJ7_newString_26 (Nat.le_of_ble_eq_true rfl) rfl ?_
      refine z_new (pc := 28) x in_J6 tyJ6 tyJ6_ok q2443 q1378 q119 (ci := 15) rfl (by decide) (by decide +kernel) dJ7_newString_28 fun v28 => ?_
      refine z_dup (pc := 31) x dJ7_newString_31 rfl ?_
      refine z_aload_n (pc := 32) x 1 dJ7_newString_32 rfl rfl ?_
      refine z_iload (pc := 33) x 0 dJ7_newString_33 rfl ?_
      refine z_call (pc := 35) (z_canI (pc := 35) (ret := none) (As := [zP v17, zI v23]) (st := [zP v28]) x (fun b => m_J6_init_3 hl (some b) v17 v23) q2444 rfl q2434 q119 q2435 n_J6_init_3 ⟨by decide, by decide⟩ (Nat.le_of_ble_eq_true rfl) dJ7_newString_35) (zv_V ?_) (fun q => zx_thr x (fun z hz => (htab z hz).elim) q)
      exact z_aret (pc := 38) x hret (Or.inl ⟨_, rfl⟩) dJ7_newString_38
/-! J6_substring -/
def s_J6_substring_22 (E : zE) (a0 : Option Nat) (a1 : Int32) (a2 : Int32) : zM := zC (zRv a0 [(15, fun b => s_J6_isLatin1 E (some b))]) zThr (zKI (fun v28 => if v28 = 0 then (zGetR a0 15 0 (fun v48 => zC (s_J7_newString E v48 a1 (a2 - a1)) zThr (zKR (fun v54 => zRet (some (va_rf v54)))))) else (zGetR a0 15 0 (fun v35 => zC (s_J18_newString E v35 a1 (a2 - a1)) zThr (zKR (fun v41 => zRet (some (va_rf v41))))))))
theorem w_J6_substring_22 (x : zCx p l R s m args meth c E D tA cJ6_substring 5 yJ6_substring.cls 15) (hl : l.stackTraces = false) (hret : meth.sig.returnType = (Option.some (Jvm.ClassFile.FieldType.object "java/lang/String"))) (hnm : meth.name = yJ6_substring.name) (htab : ∀ z ∈ c.exceptionTable.toList, False) (a0 : Option Nat) (a1 : Int32) (a2 : Int32) : zW p l e R s m args below meth c E D tA 5 k0 (s_J6_substring_22 E a0 a1 a2) [(0, zP a0), (1, zI a1), (2, zI a2)] 22 [] := by
  unfold s_J6_substring_22
  refine z_iload_n (pc := 22) x 2 dJ6_substring_22 rfl rfl ?_
  refine z_iload_n (pc := 23) x 1 dJ6_substring_23 rfl rfl ?_
  refine z_isub (pc := 24) x dJ6_substring_24 ?_
  refine z_istore (pc := 25) (lv' := [(4, zI (a2 - a1)), (0, zP a0), (1, zI a1), (2, zI a2)]) x dJ6_substring_25 (Nat.le_of_ble_eq_true rfl) rfl ?_
  refine z_aload_n (pc := 27) x 1 dJ6_substring_27 rfl rfl ?_
  refine z_call (pc := 28) (z_canV (pc := 28) (As := []) (st := []) x (ci := 15) rfl (fun b => m_J6_isLatin1 hl (some b)) q2250 q2251 (x.2.2.2.2.1 _ q2252) q119 q2253 n_J6_isLatin1 ⟨by decide, by decide⟩ (Nat.le_of_ble_eq_true rfl) dJ6_substring_28) (zv_I fun v28 => ?_) (fun q => zx_thr x (fun z hz => (htab z hz).elim) q)
  refine z_if_eq (pc := 31) (tgt := 47) x dJ6_substring_31 rfl (fun _ => ?_) (fun _ => ?_)
  · refine z_aload_n (pc := 47) x 1 dJ6_substring_47 rfl rfl ?_
    refine z_get (pc := 48) (fun _ _ h => zAsR_eq h) x in_J6 (ci := 15) rfl (k := 0) (by decide) q1436 (fun _ h => h) dJ6_substring_48 fun v48 => ?_
    refine z_iload_n (pc := 51) x 2 dJ6_substring_51 rfl rfl ?_
    refine z_iload (pc := 52) x 0 dJ6_substring_52 rfl ?_
    refine z_call (pc := 54) (z_canS (pc := 54) (As := [zP v48, zI a1, zI (a2 - a1)]) (st := []) x (m_J7_newString hl v48 a1 (a2 - a1)) q2436 q2437 q120 q2438 n_J7_newString ⟨by decide, by decide⟩ (Nat.le_of_ble_eq_true rfl) dJ6_substring_54) (zv_R fun v54 => ?_) (fun q => zx_thr x (fun z hz => (htab z hz).elim) q)
    exact z_aret (pc := 57) x hret (Or.inl ⟨_, rfl⟩) dJ6_substring_57
  · refine z_aload_n (pc := 34) x 1 dJ6_substring_34 rfl rfl ?_
    refine z_get (pc := 35) (fun _ _ h => zAsR_eq h) x in_J6 (ci := 15) rfl (k := 0) (by decide) q1436 (fun _ h => h) dJ6_substring_35 fun v35 => ?_
    refine z_iload_n (pc := 38) x 2 dJ6_substring_38 rfl rfl ?_
    refine z_iload (pc := 39) x 0 dJ6_substring_39 rfl ?_
    refine z_call (pc := 41) (z_canS (pc := 41) (As := [zP v35, zI a1, zI (a2 - a1)]) (st := []) x (m_J18_newString hl v35 a1 (a2 - a1)) q2427 q2428 q133 q2429 n_J18_newString ⟨by decide, by decide⟩ (Nat.le_of_ble_eq_true rfl) dJ6_substring_41) (zv_R fun v41 => ?_) (fun q => zx_thr x (fun z hz => (htab z hz).elim) q)
    refine z_goto (pc := 44) (tgt := 57) x dJ6_substring_44 rfl ?_
    exact z_aret (pc := 57) x hret (Or.inl ⟨_, rfl⟩) dJ6_substring_57
def s_J6_substring (E : zE) (a0 : Option Nat) (a1 : Int32) (a2 : Int32) : zM := zC (zRv a0 [(15, fun b => s_J6_length E (some b))]) zThr (zKI (fun v1 => zC (s_J6_checkBoundsBeginEnd E a1 a2 v1) zThr (zKV (if a1 = 0 then (if a2 = v1 then (zRet (some (va_rf a0))) else (s_J6_substring_22 E a0 a1 a2)) else (s_J6_substring_22 E a0 a1 a2)))))
theorem m_J6_substring {l : Launch} {E : zE} {D : va_G} {tA : Nat → ClassId} (hl : l.stackTraces = false) (a0 : Option Nat) (a1 : Int32) (a2 : Int32) : zMet l E D tA yJ6_substring (ws_ yJ6_substring cJ6_substring 5 (Option.some (Jvm.ClassFile.FieldType.object "java/lang/String"))) 15 (s_J6_substring E a0 a1 a2) [zP a0, zI a1, zI a2] := by
  refine z_met hl (by decide +kernel) (by rw [zSl_len]; exact (Nat.le_of_ble_eq_true rfl)) fun p e R s m args below meth c k0 x hret hnm htab => ?_
  refine z_lv [(0, zP a0), (1, zI a1), (2, zI a2)] rfl ?_
  unfold s_J6_substring
  refine z_aload_n (pc := 0) x 0 dJ6_substring_0 rfl rfl ?_
  refine z_call (pc := 1) (z_canV (pc := 1) (As := []) (st := []) x (ci := 15) rfl (fun b => m_J6_length hl (some b)) q2425 q1283 (x.2.2.2.2.1 _ q1284) q119 q1285 n_J6_length ⟨by decide, by decide⟩ (Nat.le_of_ble_eq_true rfl) dJ6_substring_1) (zv_I fun v1 => ?_) (fun q => zx_thr x (fun z hz => (htab z hz).elim) q)
  refine z_istore_n (pc := 4) (lv' := [(3, zI v1), (0, zP a0), (1, zI a1), (2, zI a2)]) x dJ6_substring_4 rfl (Nat.le_of_ble_eq_true rfl) rfl ?_
  refine z_iload_n (pc := 5) x 2 dJ6_substring_5 rfl rfl ?_
  refine z_iload_n (pc := 6) x 3 dJ6_substring_6 rfl rfl ?_
  refine z_iload_n (pc := 7) x 0 dJ6_substring_7 rfl rfl ?_
  refine z_call (pc := 8) (z_canS (pc := 8) (As := [zI a1, zI a2, zI v1]) (st := []) x (m_J6_checkBoundsBeginEnd hl a1 a2 v1) q2426 q1266 q119 q1267 n_J6_checkBoundsBeginEnd ⟨by decide, by decide⟩ (Nat.le_of_ble_eq_true rfl) dJ6_substring_8) (zv_V ?_) (fun q => zx_thr x (fun z hz => (htab z hz).elim) q)
  refine z_iload_n (pc := 11) x 2 dJ6_substring_11 rfl rfl ?_
  refine z_if_ne (pc := 12) (tgt := 22) x dJ6_substring_12 rfl (fun _ => ?_) (fun _ => ?_)
  · refine z_iload_n (pc := 15) x 3 dJ6_substring_15 rfl rfl ?_
    refine z_iload_n (pc := 16) x 0 dJ6_substring_16 rfl rfl ?_
    refine z_icmp_ne (pc := 17) (tgt := 22) x dJ6_substring_17 rfl (fun _ => ?_) (fun _ => ?_)
    · refine z_aload_n (pc := 20) x 1 dJ6_substring_20 rfl rfl ?_
      exact z_aret (pc := 21) x hret (Or.inl ⟨_, rfl⟩) dJ6_substring_21
    · exact z_sub [1, 2, 3] rfl (w_J6_substring_22 x hl hret hnm htab a0 a1 a2)
  · exact z_sub [1, 2, 3] rfl (w_J6_substring_22 x hl hret hnm htab a0 a1 a2)
/-! X1_maskOf -/
def s_X1_maskOf (E : zE) (a0 : Int32) : zM := if (10 : Int32) ≤ a0 then (zRet (some (.int ((1 : Int32) <<< ((a0 - (10 : Int32)) &&& 31))))) else (zRet (some (.int (0 : Int32))))
theorem m_X1_maskOf {l : Launch} {E : zE} {D : va_G} {tA : Nat → ClassId} (hl : l.stackTraces = false) (a0 : Int32) : zMet l E D tA yX1_maskOf (ws_ yX1_maskOf cX1_maskOf 1 (Option.some Jvm.ClassFile.FieldType.int)) 9 (s_X1_maskOf E a0) [zI a0] := by
  refine z_met hl (by decide +kernel) (by rw [zSl_len]; exact (Nat.le_of_ble_eq_true rfl)) fun p e R s m args below meth c k0 x hret hnm htab => ?_
  refine z_lv [(0, zI a0)] rfl ?_
  unfold s_X1_maskOf
  refine z_iload_n (pc := 0) x 0 dX1_maskOf_0 rfl rfl ?_
  refine z_bipush (pc := 1) x (v := (10 : Int32)) dX1_maskOf_1 rfl ?_
  refine z_icmp_ge (pc := 3) (tgt := 10) x dX1_maskOf_3 rfl (fun _ => ?_) (fun _ => ?_)
  · refine z_iconst (pc := 10) x (v := (1 : Int32)) dX1_maskOf_10 rfl ?_
    refine z_iload_n (pc := 11) x 0 dX1_maskOf_11 rfl rfl ?_
    refine z_bipush (pc := 12) x (v := (10 : Int32)) dX1_maskOf_12 rfl ?_
    refine z_isub (pc := 14) x dX1_maskOf_14 ?_
    refine z_ishl (pc := 15) x dX1_maskOf_15 ?_
    exact z_iret (pc := 16) x hret dX1_maskOf_16
  · refine z_iconst (pc := 6) x (v := (0 : Int32)) dX1_maskOf_6 rfl ?_
    refine z_goto (pc := 7) (tgt := 16) x dX1_maskOf_7 rfl ?_
    exact z_iret (pc := 16) x hret dX1_maskOf_16
/-! X9_mask -/
def s_X9_mask_28 (E : zE) (b0 : Int32) (b1 : Int32) : zM := zRet (some (.int (b0 ||| b1)))
theorem w_X9_mask_28 (x : zCx p l R s m args meth c E D tA cX9_mask 1 yX9_mask.cls 10) (hl : l.stackTraces = false) (hret : meth.sig.returnType = (Option.some Jvm.ClassFile.FieldType.int)) (hnm : meth.name = yX9_mask.name) (htab : ∀ z ∈ c.exceptionTable.toList, False) (b0 : Int32) (b1 : Int32) : zW p l e R s m args below meth c E D tA 1 k0 (s_X9_mask_28 E b0 b1) [] 28 [zI b1, zI b0] := by
  unfold s_X9_mask_28
  refine z_ior (pc := 28) x dX9_mask_28 ?_
  exact z_iret (pc := 29) x hret dX9_mask_29
def s_X9_mask (E : zE) (a0 : Option Nat) : zM := zGetI a0 37 1 (fun v1 => zC (s_X1_maskOf E v1) zThr (zKI (fun v4 => zGetI a0 37 0 (fun v8 => zC (s_X1_isPair E v8) zThr (zKI (fun v11 => if v11 = 0 then (s_X9_mask_28 E v4 (0 : Int32)) else (zGetI a0 37 2 (fun v18 => zC (s_X1_maskOf E v18) zThr (zKI (fun v21 => s_X9_mask_28 E v4 v21))))))))))
theorem m_X9_mask {l : Launch} {E : zE} {D : va_G} {tA : Nat → ClassId} (hl : l.stackTraces = false) (a0 : Option Nat) : zMet l E D tA yX9_mask (ws_ yX9_mask cX9_mask 1 (Option.some Jvm.ClassFile.FieldType.int)) 10 (s_X9_mask E a0) [zP a0] := by
  refine z_met hl (by decide +kernel) (by rw [zSl_len]; exact (Nat.le_of_ble_eq_true rfl)) fun p e R s m args below meth c k0 x hret hnm htab => ?_
  refine z_lv [(0, zP a0)] rfl ?_
  unfold s_X9_mask
  refine z_aload_n (pc := 0) x 0 dX9_mask_0 rfl rfl ?_
  refine z_get (pc := 1) (fun _ _ h => zAsI_eq h) x in_X9 (ci := 37) rfl (k := 1) (by decide) q2369 (fun _ h => h) dX9_mask_1 fun v1 => ?_
  refine z_call (pc := 4) (z_canSN (pc := 4) (As := [zI v1]) (st := []) x (m_X1_maskOf hl v1) q2455 q2456 q108 q2457 n_X1_maskOf ⟨by decide, by decide⟩ (Nat.le_of_ble_eq_true rfl) dX9_mask_4) (zv_I fun v4 => ?_) (fun q => zx_thr x (fun z hz => (htab z hz).elim) q)
  refine z_aload_n (pc := 7) x 0 dX9_mask_7 rfl rfl ?_
  refine z_get (pc := 8) (fun _ _ h => zAsI_eq h) x in_X9 (ci := 37) rfl (k := 0) (by decide) q2358 (fun _ h => h) dX9_mask_8 fun v8 => ?_
  refine z_call (pc := 11) (z_canSN (pc := 11) (As := [zI v8]) (st := [zI v4]) x (m_X1_isPair hl v8) q806 q807 q108 q808 n_X1_isPair ⟨by decide, by decide⟩ (Nat.le_of_ble_eq_true rfl) dX9_mask_11) (zv_I fun v11 => ?_) (fun q => zx_thr x (fun z hz => (htab z hz).elim) q)
  refine z_if_eq (pc := 14) (tgt := 27) x dX9_mask_14 rfl (fun _ => ?_) (fun _ => ?_)
  · refine z_iconst (pc := 27) x (v := (0 : Int32)) dX9_mask_27 rfl ?_
    exact z_sub [] rfl (w_X9_mask_28 x hl hret hnm htab v4 (0 : Int32))
  · refine z_aload_n (pc := 17) x 0 dX9_mask_17 rfl rfl ?_
    refine z_get (pc := 18) (fun _ _ h => zAsI_eq h) x in_X9 (ci := 37) rfl (k := 2) (by decide) q2371 (fun _ h => h) dX9_mask_18 fun v18 => ?_
    refine z_call (pc := 21) (z_canSN (pc := 21) (As := [zI v18]) (st := [zI v4]) x (m_X1_maskOf hl v18) q2455 q2456 q108 q2457 n_X1_maskOf ⟨by decide, by decide⟩ (Nat.le_of_ble_eq_true rfl) dX9_mask_21) (zv_I fun v21 => ?_) (fun q => zx_thr x (fun z hz => (htab z hz).elim) q)
    refine z_goto (pc := 24) (tgt := 28) x dX9_mask_24 rfl ?_
    exact z_sub [] rfl (w_X9_mask_28 x hl hret hnm htab v4 v21)
/-! X23_mask -/
def s_X23_mask (E : zE) (a0 : Option Nat) : zM := zGetR a0 29 0 (fun v1 => zC (zRv v1 [(37, fun b => s_X9_mask E (some b))]) zThr (zKI (fun v4 => zRet (some (.int v4)))))
theorem m_X23_mask {l : Launch} {E : zE} {D : va_G} {tA : Nat → ClassId} (hl : l.stackTraces = false) (a0 : Option Nat) : zMet l E D tA yX23_mask (ws_ yX23_mask cX23_mask 1 (Option.some Jvm.ClassFile.FieldType.int)) 11 (s_X23_mask E a0) [zP a0] := by
  refine z_met hl (by decide +kernel) (by rw [zSl_len]; exact (Nat.le_of_ble_eq_true rfl)) fun p e R s m args below meth c k0 x hret hnm htab => ?_
  refine z_lv [(0, zP a0)] rfl ?_
  unfold s_X23_mask
  refine z_aload_n (pc := 0) x 0 dX23_mask_0 rfl rfl ?_
  refine z_get (pc := 1) (fun _ _ h => zAsR_eq h) x in_X23 (ci := 29) rfl (k := 0) (by decide) q2391 (fun _ h => h) dX23_mask_1 fun v1 => ?_
  refine z_call (pc := 4) (z_canV (pc := 4) (As := []) (st := []) x (ci := 37) rfl (fun b => m_X9_mask hl (some b)) q2477 q2452 (x.2.2.2.2.1 _ q2453) q143 q2454 n_X9_mask ⟨by decide, by decide⟩ (Nat.le_of_ble_eq_true rfl) dX23_mask_4) (zv_I fun v4 => ?_) (fun q => zx_thr x (fun z hz => (htab z hz).elim) q)
  exact z_iret (pc := 7) x hret dX23_mask_7
/-! X24_mask -/
def s_X24_mask (E : zE) (a0 : Option Nat) : zM := zGetI a0 30 0 (fun v1 => zC (s_X1_maskOf E v1) zThr (zKI (fun v4 => zGetI a0 30 1 (fun v8 => zC (s_X1_maskOf E v8) zThr (zKI (fun v11 => zRet (some (.int (v4 ||| v11)))))))))
theorem m_X24_mask {l : Launch} {E : zE} {D : va_G} {tA : Nat → ClassId} (hl : l.stackTraces = false) (a0 : Option Nat) : zMet l E D tA yX24_mask (ws_ yX24_mask cX24_mask 1 (Option.some Jvm.ClassFile.FieldType.int)) 10 (s_X24_mask E a0) [zP a0] := by
  refine z_met hl (by decide +kernel) (by rw [zSl_len]; exact (Nat.le_of_ble_eq_true rfl)) fun p e R s m args below meth c k0 x hret hnm htab => ?_
  refine z_lv [(0, zP a0)] rfl ?_
  unfold s_X24_mask
  refine z_aload_n (pc := 0) x 0 dX24_mask_0 rfl rfl ?_
  refine z_get (pc := 1) (fun _ _ h => zAsI_eq h) x in_X24 (ci := 30) rfl (k := 0) (by decide) q2404 (fun _ h => h) dX24_mask_1 fun v1 => ?_
  refine z_call (pc := 4) (z_canSN (pc := 4) (As := [zI v1]) (st := []) x (m_X1_maskOf hl v1) q2483 q2456 q108 q2457 n_X1_maskOf ⟨by decide, by decide⟩ (Nat.le_of_ble_eq_true rfl) dX24_mask_4) (zv_I fun v4 => ?_) (fun q => zx_thr x (fun z hz => (htab z hz).elim) q)
  refine z_aload_n (pc := 7) x 0 dX24_mask_7 rfl rfl ?_
  refine z_get (pc := 8) (fun _ _ h => zAsI_eq h) x in_X24 (ci := 30) rfl (k := 1) (by decide) q2405 (fun _ h => h) dX24_mask_8 fun v8 => ?_
  refine z_call (pc := 11) (z_canSN (pc := 11) (As := [zI v8]) (st := [zI v4]) x (m_X1_maskOf hl v8) q2483 q2456 q108 q2457 n_X1_maskOf ⟨by decide, by decide⟩ (Nat.le_of_ble_eq_true rfl) dX24_mask_11) (zv_I fun v11 => ?_) (fun q => zx_thr x (fun z hz => (htab z hz).elim) q)
  refine z_ior (pc := 14) x dX24_mask_14 ?_
  exact z_iret (pc := 15) x hret dX24_mask_15
/-! X26_masks -/
def s_X26_masks_52 (E : zE) (k9 : Int32 → Int32 → Option Nat → zM) (a1 : Int32) (a3 : Option Nat) (b0 : Int32) (b1 : Int32) : zM := k9 a1 (b0 ||| b1) a3
theorem w_X26_masks_52 (x : zCx p l R s m args meth c E D tA cX26_masks 5 yX26_masks.cls 12) (hl : l.stackTraces = false) (hret : meth.sig.returnType = (Option.some Jvm.ClassFile.FieldType.int)) (hnm : meth.name = yX26_masks.name) (htab : ∀ z ∈ c.exceptionTable.toList, False) {k9 : Int32 → Int32 → Option Nat → zM} (h9 : ∀ (a1 : Int32) (a2 : Int32) (a3 : Option Nat) , zW p l e R s m args below meth c E D tA 5 k0 (k9 a1 a2 a3) [(1, zI a1), (2, zI a2), (3, zP a3)] 9 []) (a1 : Int32) (a3 : Option Nat) (b0 : Int32) (b1 : Int32) : zW p l e R s m args below meth c E D tA 5 k0 (s_X26_masks_52 E k9 a1 a3 b0 b1) [(1, zI a1), (3, zP a3)] 52 [zI b1, zI b0] := by
  unfold s_X26_masks_52
  refine z_ior (pc := 52) x dX26_masks_52 ?_
  refine z_istore_n (pc := 53) (lv' := [(2, zI (b0 ||| b1)), (1, zI a1), (3, zP a3)]) x dX26_masks_53 rfl (Nat.le_of_ble_eq_true rfl) rfl ?_
  refine z_goto (pc := 54) (tgt := 9) x dX26_masks_54 rfl ?_
  exact z_sub [1, 0, 2] rfl (h9 a1 (b0 ||| b1) a3)
def s_X26_masks_9 (E : zE) : Nat → Int32 → Int32 → Option Nat → zM
  | 0, _, _, _ => zFail
  | n + 1, a1, a2, a3 => zC (zRv a3 [(11, fun b => s_J22_hasNext E (some b))]) zThr (zKI (fun v10 => if v10 = 0 then (zRet (some (.int a2))) else (zC (zRv a3 [(11, fun b => s_J22_next E (some b))]) zThr (zKR (fun v19 => zCst 12 v19 (zC (zRv v19 [(29, fun b => s_X23_isPositive E (some b)), (30, fun b => s_X26_isPositive E (some b))]) zThr (zKI (fun v32 => if v32 = a1 then (zC (zRv v19 [(29, fun b => s_X23_mask E (some b)), (30, fun b => s_X24_mask E (some b))]) zThr (zKI (fun v43 => s_X26_masks_52 E (s_X26_masks_9 E n) a1 a3 a2 v43))) else (s_X26_masks_52 E (s_X26_masks_9 E n) a1 a3 a2 (0 : Int32))))))))))
theorem w_X26_masks_9 (x : zCx p l R s m args meth c E D tA cX26_masks 5 yX26_masks.cls 12) (hl : l.stackTraces = false) (hret : meth.sig.returnType = (Option.some Jvm.ClassFile.FieldType.int)) (hnm : meth.name = yX26_masks.name) (htab : ∀ z ∈ c.exceptionTable.toList, False) : ∀ (n : Nat) (a1 : Int32) (a2 : Int32) (a3 : Option Nat), zW p l e R s m args below meth c E D tA 5 k0 (s_X26_masks_9 E n a1 a2 a3) [(1, zI a1), (2, zI a2), (3, zP a3)] 9 [] := by
  intro n
  induction n with
  | zero => intro a1 a2 a3; exact z_fail
  | succ n h9 =>
    intro a1 a2 a3
    rw [s_X26_masks_9]
    refine z_aload_n (pc := 9) x 2 dX26_masks_9 rfl rfl ?_
    refine z_call (pc := 10) (z_canIF (pc := 10) (As := []) (st := []) (x9 := ⟨"java/util/Iterator", "hasNext", "()Z"⟩) x (ci := 11) rfl (fun b => m_J22_hasNext hl (some b)) q2464 q413 q412 (by decide) q415 q417 q418 q416 q414 q139 q419 nx_java_util_Iterator_hasNext___Z ⟨by decide, by decide⟩ (Nat.le_of_ble_eq_true rfl) dX26_masks_10) (zv_I fun v10 => ?_) (fun q => zx_thr x (fun z hz => (htab z hz).elim) q)
    refine z_if_eq (pc := 15) (tgt := 57) x dX26_masks_15 rfl (fun _ => ?_) (fun _ => ?_)
    · refine z_iload_n (pc := 57) x 1 dX26_masks_57 rfl rfl ?_
      exact z_iret (pc := 58) x hret dX26_masks_58
    · refine z_aload_n (pc := 18) x 2 dX26_masks_18 rfl rfl ?_
      refine z_call (pc := 19) (z_canIF (pc := 19) (As := []) (st := []) (x9 := ⟨"java/util/Iterator", "next", "()Ljava/lang/Object;"⟩) x (ci := 11) rfl (fun b => m_J22_next hl (some b)) q2466 q423 q422 (by decide) q424 q426 q427 q425 q414 q139 q428 nx_java_util_Iterator_next___Ljava_lang_Object_ ⟨by decide, by decide⟩ (Nat.le_of_ble_eq_true rfl) dX26_masks_19) (zv_R fun v19 => ?_) (fun q => zx_thr x (fun z hz => (htab z hz).elim) q)
      refine z_cst (pc := 24) x (tg := 12) rfl q2467 dX26_masks_24 ?_
      refine z_astore (pc := 27) (lv' := [(4, zP v19), (1, zI a1), (2, zI a2), (3, zP a3)]) x dX26_masks_27 (Nat.le_of_ble_eq_true rfl) rfl ?_
      refine z_iload_n (pc := 29) x 2 dX26_masks_29 rfl rfl ?_
      refine z_aload (pc := 30) x 0 dX26_masks_30 rfl ?_
      refine z_call (pc := 32) (z_can_cons (z_canIF (pc := 32) (As := []) (st := [zI a2]) (x9 := ⟨"BrambleLogic$Literal", "isPositive", "()Z"⟩) x (ci := 29) rfl (fun b => m_X23_isPositive hl (some b)) q581 q583 q582 (by decide) q584 q586 q587 q585 q514 q162 q588 nx_BrambleLogic_Literal_isPositive___Z ⟨by decide, by decide⟩ (Nat.le_of_ble_eq_true rfl) dX26_masks_32) (z_can_cons (z_canID (pc := 32) (As := []) (st := [zI a2]) (x9 := ⟨"BrambleLogic$Literal", "isPositive", "()Z"⟩) x (ci := 30) rfl (fun b => m_X26_isPositive hl (some b)) q581 q583 q582 (by decide) (List.mem_of_getElem? (i := 7) rfl) q590 q591 q536 q165 q592 nx_BrambleLogic_Literal_isPositive___Z ⟨by decide, by decide⟩ (Nat.le_of_ble_eq_true rfl) dX26_masks_32) (z_can_nil))) (zv_I fun v32 => ?_) (fun q => zx_thr x (fun z hz => (htab z hz).elim) q)
      refine z_iload_n (pc := 37) x 1 dX26_masks_37 rfl rfl ?_
      refine z_icmp_ne (pc := 38) (tgt := 51) x dX26_masks_38 rfl (fun _ => ?_) (fun _ => ?_)
      · refine z_aload (pc := 41) x 0 dX26_masks_41 rfl ?_
        refine z_call (pc := 43) (z_can_cons (z_canIF (pc := 43) (As := []) (st := [zI a2]) (x9 := ⟨"BrambleLogic$Literal", "mask", "()I"⟩) x (ci := 29) rfl (fun b => m_X23_mask hl (some b)) q2469 q2471 q2470 (by decide) q2472 q2474 q2475 q2473 q514 q162 q2476 nx_BrambleLogic_Literal_mask___I ⟨by decide, by decide⟩ (Nat.le_of_ble_eq_true rfl) dX26_masks_43) (z_can_cons (z_canIF (pc := 43) (As := []) (st := [zI a2]) (x9 := ⟨"BrambleLogic$Literal", "mask", "()I"⟩) x (ci := 30) rfl (fun b => m_X24_mask hl (some b)) q2469 q2471 q2470 (by decide) q2478 q2480 q2481 q2479 q536 q163 q2482 nx_BrambleLogic_Literal_mask___I ⟨by decide, by decide⟩ (Nat.le_of_ble_eq_true rfl) dX26_masks_43) (z_can_nil))) (zv_I fun v43 => ?_) (fun q => zx_thr x (fun z hz => (htab z hz).elim) q)
        refine z_goto (pc := 48) (tgt := 52) x dX26_masks_48 rfl ?_
        exact z_sub [1, 3] rfl (w_X26_masks_52 x hl hret hnm htab h9 a1 a3 a2 v43)
      · refine z_iconst (pc := 51) x (v := (0 : Int32)) dX26_masks_51 rfl ?_
        exact z_sub [1, 3] rfl (w_X26_masks_52 x hl hret hnm htab h9 a1 a3 a2 (0 : Int32))
def s_X26_masks (E : zE) (a0 : Option Nat) (a1 : Int32) : zM := zC (zRv a0 [(10, fun b => s_J2_iterator E (some b))]) zThr (zKR (fun v3 => s_X26_masks_9 E zN a1 (0 : Int32) v3))
theorem m_X26_masks {l : Launch} {E : zE} {D : va_G} {tA : Nat → ClassId} (hl : l.stackTraces = false) (a0 : Option Nat) (a1 : Int32) : zMet l E D tA yX26_masks (ws_ yX26_masks cX26_masks 5 (Option.some Jvm.ClassFile.FieldType.int)) 12 (s_X26_masks E a0 a1) [zP a0, zI a1] := by
  refine z_met hl (by decide +kernel) (by rw [zSl_len]; exact (Nat.le_of_ble_eq_true rfl)) fun p e R s m args below meth c k0 x hret hnm htab => ?_
  refine z_lv [(0, zP a0), (1, zI a1)] rfl ?_
  unfold s_X26_masks
  refine z_iconst (pc := 0) x (v := (0 : Int32)) dX26_masks_0 rfl ?_
  refine z_istore_n (pc := 1) (lv' := [(2, zI (0 : Int32)), (0, zP a0), (1, zI a1)]) x dX26_masks_1 rfl (Nat.le_of_ble_eq_true rfl) rfl ?_
  refine z_aload_n (pc := 2) x 1 dX26_masks_2 rfl rfl ?_
  refine z_call (pc := 3) (z_canIF (pc := 3) (As := []) (st := []) (x9 := ⟨"java/util/List", "iterator", "()Ljava/util/Iterator;"⟩) x (ci := 10) rfl (fun b => m_J2_iterator hl (some b)) q2462 q383 q382 (by decide) q385 q387 q388 q386 q384 q112 q389 nx_java_util_List_iterator___Ljava_util_Iterator_ ⟨by decide, by decide⟩ (Nat.le_of_ble_eq_true rfl) dX26_masks_3) (zv_R fun v3 => ?_) (fun q => zx_thr x (fun z hz => (htab z hz).elim) q)
  refine z_astore_n (pc := 8) (lv' := [(3, zP v3), (2, zI (0 : Int32)), (0, zP a0), (1, zI a1)]) x dX26_masks_8 rfl (Nat.le_of_ble_eq_true rfl) rfl ?_
  exact z_sub [3, 1, 0] rfl (w_X26_masks_9 x hl hret hnm htab zN a1 (0 : Int32) v3)
/-! X25_init -/
def s_X25_init_113 (E : zE) (k58 : Option Nat → Option Nat → zM) (a0 : Option Nat) (a4 : Option Nat) : zM := k58 a0 a4
theorem w_X25_init_113 (x : zCx p l R s m args meth c E D tA cX25_init 6 yX25_init.cls 15) (hl : l.stackTraces = false) (hret : meth.sig.returnType = (Option.none : Option Jvm.ClassFile.FieldType)) (hnm : meth.name = yX25_init.name) (htab : ∀ z ∈ c.exceptionTable.toList, False) {k58 : Option Nat → Option Nat → zM} (h58 : ∀ (a0 : Option Nat) (a4 : Option Nat) , zW p l e R s m args below meth c E D tA 6 k0 (k58 a0 a4) [(0, zP a0), (4, zP a4)] 58 []) (a0 : Option Nat) (a4 : Option Nat) : zW p l e R s m args below meth c E D tA 6 k0 (s_X25_init_113 E k58 a0 a4) [(0, zP a0), (4, zP a4)] 113 [] := by
  unfold s_X25_init_113
  refine z_goto (pc := 113) (tgt := 58) x dX25_init_113 rfl ?_
  exact z_sub [0, 1] rfl (h58 a0 a4)
def s_X25_init_58 (E : zE) : Nat → Option Nat → Option Nat → zM
  | 0, _, _ => zFail
  | n + 1, a0, a4 => zC (zRv a4 [(11, fun b => s_J22_hasNext E (some b))]) zThr (zKI (fun v60 => if v60 = 0 then (zRet none) else (zC (zRv a4 [(11, fun b => s_J22_next E (some b))]) zThr (zKR (fun v70 => zCst 12 v70 (zC (zRv v70 [(29, fun b => s_X23_isPositive E (some b)), (30, fun b => s_X26_isPositive E (some b))]) zThr (zKI (fun v82 => if v82 = 0 then (s_X25_init_113 E (s_X25_init_58 E n) a0 a4) else (zGetR a0 31 2 (fun v91 => zC (zRv v70 [(29, fun b => s_X23_atom E (some b)), (30, fun b => s_X26_atom E (some b))]) zThr (zKR (fun v96 => zC (zRv v96 [(12, fun b => s_J23_get E (some b))]) zThr (zKR (fun v101 => zCsS 37 v101 (zC (zRv v91 [(10, fun b => s_J2_add E (some b) v101)]) zThr (zKI (fun v107 => s_X25_init_113 E (s_X25_init_58 E n) a0 a4)))))))))))))))))
theorem w_X25_init_58 (x : zCx p l R s m args meth c E D tA cX25_init 6 yX25_init.cls 15) (hl : l.stackTraces = false) (hret : meth.sig.returnType = (Option.none : Option Jvm.ClassFile.FieldType)) (hnm : meth.name = yX25_init.name) (htab : ∀ z ∈ c.exceptionTable.toList, False) : ∀ (n : Nat) (a0 : Option Nat) (a4 : Option Nat), zW p l e R s m args below meth c E D tA 6 k0 (s_X25_init_58 E n a0 a4) [(0, zP a0), (4, zP a4)] 58 [] := by
  intro n
  induction n with
  | zero => intro a0 a4; exact z_fail
  | succ n h58 =>
    intro a0 a4
    rw [s_X25_init_58]
    refine z_aload (pc := 58) x 1 dX25_init_58 rfl ?_
    refine z_call (pc := 60) (z_canIF (pc := 60) (As := []) (st := []) (x9 := ⟨"java/util/Iterator", "hasNext", "()Z"⟩) x (ci := 11) rfl (fun b => m_J22_hasNext hl (some b)) q786 q413 q412 (by decide) q415 q417 q418 q416 q414 q139 q419 nx_java_util_Iterator_hasNext___Z ⟨by decide, by decide⟩ (Nat.le_of_ble_eq_true rfl) dX25_init_60) (zv_I fun v60 => ?_) (fun q => zx_thr x (fun z hz => (htab z hz).elim) q)
    refine z_if_eq (pc := 65) (tgt := 116) x dX25_init_65 rfl (fun _ => ?_) (fun _ => ?_)
    · exact z_vret (pc := 116) x hret dX25_init_116
    · refine z_aload (pc := 68) x 1 dX25_init_68 rfl ?_
      refine z_call (pc := 70) (z_canIF (pc := 70) (As := []) (st := []) (x9 := ⟨"java/util/Iterator", "next", "()Ljava/lang/Object;"⟩) x (ci := 11) rfl (fun b => m_J22_next hl (some b)) q788 q423 q422 (by decide) q424 q426 q427 q425 q414 q139 q428 nx_java_util_Iterator_next___Ljava_lang_Object_ ⟨by decide, by decide⟩ (Nat.le_of_ble_eq_true rfl) dX25_init_70) (zv_R fun v70 => ?_) (fun q => zx_thr x (fun z hz => (htab z hz).elim) q)
      refine z_cst (pc := 75) x (tg := 12) rfl q789 dX25_init_75 ?_
      refine z_astore (pc := 78) (lv' := [(5, zP v70), (0, zP a0), (4, zP a4)]) x dX25_init_78 (Nat.le_of_ble_eq_true rfl) rfl ?_
      refine z_aload (pc := 80) x 0 dX25_init_80 rfl ?_
      refine z_call (pc := 82) (z_can_cons (z_canIF (pc := 82) (As := []) (st := []) (x9 := ⟨"BrambleLogic$Literal", "isPositive", "()Z"⟩) x (ci := 29) rfl (fun b => m_X23_isPositive hl (some b)) q2485 q583 q582 (by decide) q584 q586 q587 q585 q514 q162 q588 nx_BrambleLogic_Literal_isPositive___Z ⟨by decide, by decide⟩ (Nat.le_of_ble_eq_true rfl) dX25_init_82) (z_can_cons (z_canID (pc := 82) (As := []) (st := []) (x9 := ⟨"BrambleLogic$Literal", "isPositive", "()Z"⟩) x (ci := 30) rfl (fun b => m_X26_isPositive hl (some b)) q2485 q583 q582 (by decide) (List.mem_of_getElem? (i := 7) rfl) q590 q591 q536 q165 q592 nx_BrambleLogic_Literal_isPositive___Z ⟨by decide, by decide⟩ (Nat.le_of_ble_eq_true rfl) dX25_init_82) (z_can_nil))) (zv_I fun v82 => ?_) (fun q => zx_thr x (fun z hz => (htab z hz).elim) q)
      refine z_if_eq (pc := 87) (tgt := 113) x dX25_init_87 rfl (fun _ => ?_) (fun _ => ?_)
      · exact z_sub [1, 2] rfl (w_X25_init_113 x hl hret hnm htab h58 a0 a4)
      · refine z_aload_n (pc := 90) x 1 dX25_init_90 rfl rfl ?_
        refine z_get (pc := 91) (fun _ _ h => zAsR_eq h) x in_X25 (ci := 31) rfl (k := 2) (by decide) q2506 (fun _ h => h) dX25_init_91 fun v91 => ?_
        refine z_aload (pc := 94) x 0 dX25_init_94 rfl ?_
        refine z_call (pc := 96) (z_can_cons (z_canIF (pc := 96) (As := []) (st := [zP v91]) (x9 := ⟨"BrambleLogic$Literal", "atom", "()Ljava/util/Optional;"⟩) x (ci := 29) rfl (fun b => m_X23_atom hl (some b)) q2487 q513 q512 (by decide) q515 q517 q518 q516 q514 q162 q519 nx_BrambleLogic_Literal_atom___Ljava_util_Optional_ ⟨by decide, by decide⟩ (Nat.le_of_ble_eq_true rfl) dX25_init_96) (z_can_cons (z_canID (pc := 96) (As := []) (st := [zP v91]) (x9 := ⟨"BrambleLogic$Literal", "atom", "()Ljava/util/Optional;"⟩) x (ci := 30) rfl (fun b => m_X26_atom hl (some b)) q2487 q513 q512 (by decide) (List.mem_of_getElem? (i := 5) rfl) q538 q539 q536 q165 q540 nx_BrambleLogic_Literal_atom___Ljava_util_Optional_ ⟨by decide, by decide⟩ (Nat.le_of_ble_eq_true rfl) dX25_init_96) (z_can_nil))) (zv_R fun v96 => ?_) (fun q => zx_thr x (fun z hz => (htab z hz).elim) q)
        refine z_call (pc := 101) (z_canV (pc := 101) (As := []) (st := [zP v91]) x (ci := 12) rfl (fun b => m_J23_get hl (some b)) q2488 q551 (x.2.2.2.2.1 _ q552) q140 q553 n_J23_get ⟨by decide, by decide⟩ (Nat.le_of_ble_eq_true rfl) dX25_init_101) (zv_R fun v101 => ?_) (fun q => zx_thr x (fun z hz => (htab z hz).elim) q)
        refine z_csS (pc := 104) x (ci := 37) rfl q2489 dX25_init_104 ?_
        refine z_call (pc := 107) (z_canIF (pc := 107) (As := [zP v101]) (st := []) (x9 := ⟨"java/util/List", "add", "(Ljava/lang/Object;)Z"⟩) x (ci := 10) rfl (fun b => m_J2_add hl (some b) v101) q2491 q660 q659 (by decide) q661 q663 q664 q662 q384 q112 q665 nx_java_util_List_add__Ljava_lang_Object__Z ⟨by decide, by decide⟩ (Nat.le_of_ble_eq_true rfl) dX25_init_107) (zv_I fun v107 => ?_) (fun q => zx_thr x (fun z hz => (htab z hz).elim) q)
        refine z_pop (pc := 112) x dX25_init_112 rfl ?_
        exact z_sub [1, 2] rfl (w_X25_init_113 x hl hret hnm htab h58 a0 a4)
def s_X25_init (E : zE) (a0 : Option Nat) (a1 : Option Nat) (a2 : Option Nat) (a3 : Option Nat) : zM := zSp a0 (fun _ => zNew 10 3 [.int 0, .null, .int 0] (fun v5 => zC (zSp v5 (fun b => s_J2_init E (some b))) zThr (zKV (zSet E a0 31 2 (zVal (zP v5)) (zSet E a0 31 0 (zVal (zP a1)) (zSet E a0 31 1 (zVal (zP a2)) (zSet E a0 31 3 (zVal (zP a3)) (zC (zRv a1 [(37, fun b => s_X9_mask E (some b))]) zThr (zKI (fun v32 => zC (s_X26_masks E a2 (1 : Int32)) zThr (zKI (fun v37 => zC (s_X26_masks E a2 (0 : Int32)) zThr (zKI (fun v43 => zSet E a0 31 4 (zVal (zI ((v32 ||| v37) ||| v43))) (zC (zRv a2 [(10, fun b => s_J2_iterator E (some b))]) zThr (zKR (fun v51 => s_X25_init_58 E zN a0 v51)))))))))))))))))
theorem m_X25_init {l : Launch} {E : zE} {D : va_G} {tA : Nat → ClassId} (hl : l.stackTraces = false) (a0 : Option Nat) (a1 : Option Nat) (a2 : Option Nat) (a3 : Option Nat) : zMet l E D tA yX25_init (ws_ yX25_init cX25_init 6 (Option.none : Option Jvm.ClassFile.FieldType)) 15 (s_X25_init E a0 a1 a2 a3) [zP a0, zP a1, zP a2, zP a3] := by
  refine z_met hl (by decide +kernel) (by rw [zSl_len]; exact (Nat.le_of_ble_eq_true rfl)) fun p e R s m args below meth c k0 x hret hnm htab => ?_
  refine z_lv [(0, zP a0), (1, zP a1), (2, zP a2), (3, zP a3)] rfl ?_
  unfold s_X25_init
  refine z_aload_n (pc := 0) x 0 dX25_init_0 rfl rfl ?_
  refine z_objInit (pc := 1) x q2448 q173 q174 (by omega) (zSum (k := 0) rfl (by omega)) dX25_init_1 ?_
  refine z_aload_n (pc := 4) x 0 dX25_init_4 rfl rfl ?_
  refine z_new (pc := 5) x in_J2 tyJ2 tyJ2_ok q2449 q182 q112 (ci := 10) rfl (by decide) (by decide +kernel) dX25_init_5 fun v5 => ?_
  refine z_dup (pc := 8) x dX25_init_8 rfl ?_
  refine z_call (pc := 9) (z_canI (pc := 9) (ret := none) (As := []) (st := [zP v5, zP a0]) x (fun b => m_J2_init hl (some b)) q2450 rfl q184 q112 q185 n_J2_init ⟨by decide, by decide⟩ (Nat.le_of_ble_eq_true rfl) dX25_init_9) (zv_V ?_) (fun q => zx_thr x (fun z hz => (htab z hz).elim) q)
  refine z_setF (pc := 12) (v := zP v5) x in_X25 tyX25 tyX25_ok nmX25 (ci := 31) rfl (k := 2) (by decide) q2506 (fun _ h => h) rfl hnm rfl (zfitR rfl _).1 (zfitR rfl _).2 dX25_init_12 ?_
  refine z_aload_n (pc := 15) x 0 dX25_init_15 rfl rfl ?_
  refine z_aload_n (pc := 16) x 1 dX25_init_16 rfl rfl ?_
  refine z_setF (pc := 17) (v := zP a1) x in_X25 tyX25 tyX25_ok nmX25 (ci := 31) rfl (k := 0) (by decide) q2492 (fun _ h => h) rfl hnm rfl (zfitR rfl _).1 (zfitR rfl _).2 dX25_init_17 ?_
  refine z_aload_n (pc := 20) x 0 dX25_init_20 rfl rfl ?_
  refine z_aload_n (pc := 21) x 2 dX25_init_21 rfl rfl ?_
  refine z_setF (pc := 22) (v := zP a2) x in_X25 tyX25 tyX25_ok nmX25 (ci := 31) rfl (k := 1) (by decide) q2502 (fun _ h => h) rfl hnm rfl (zfitR rfl _).1 (zfitR rfl _).2 dX25_init_22 ?_
  refine z_aload_n (pc := 25) x 0 dX25_init_25 rfl rfl ?_
  refine z_aload_n (pc := 26) x 3 dX25_init_26 rfl rfl ?_
  refine z_setF (pc := 27) (v := zP a3) x in_X25 tyX25 tyX25_ok nmX25 (ci := 31) rfl (k := 3) (by decide) q2511 (fun _ h => h) rfl hnm rfl (zfitR rfl _).1 (zfitR rfl _).2 dX25_init_27 ?_
  refine z_aload_n (pc := 30) x 0 dX25_init_30 rfl rfl ?_
  refine z_aload_n (pc := 31) x 1 dX25_init_31 rfl rfl ?_
  refine z_call (pc := 32) (z_canV (pc := 32) (As := []) (st := [zP a0]) x (ci := 37) rfl (fun b => m_X9_mask hl (some b)) q2451 q2452 (x.2.2.2.2.1 _ q2453) q143 q2454 n_X9_mask ⟨by decide, by decide⟩ (Nat.le_of_ble_eq_true rfl) dX25_init_32) (zv_I fun v32 => ?_) (fun q => zx_thr x (fun z hz => (htab z hz).elim) q)
  refine z_aload_n (pc := 35) x 2 dX25_init_35 rfl rfl ?_
  refine z_iconst (pc := 36) x (v := (1 : Int32)) dX25_init_36 rfl ?_
  refine z_call (pc := 37) (z_canS (pc := 37) (As := [zP a2, zI (1 : Int32)]) (st := [zI v32, zP a0]) x (m_X26_masks hl a2 (1 : Int32)) q2458 q2459 q165 q2460 n_X26_masks ⟨by decide, by decide⟩ (Nat.le_of_ble_eq_true rfl) dX25_init_37) (zv_I fun v37 => ?_) (fun q => zx_thr x (fun z hz => (htab z hz).elim) q)
  refine z_ior (pc := 40) x dX25_init_40 ?_
  refine z_aload_n (pc := 41) x 2 dX25_init_41 rfl rfl ?_
  refine z_iconst (pc := 42) x (v := (0 : Int32)) dX25_init_42 rfl ?_
  refine z_call (pc := 43) (z_canS (pc := 43) (As := [zP a2, zI (0 : Int32)]) (st := [zI (v32 ||| v37), zP a0]) x (m_X26_masks hl a2 (0 : Int32)) q2458 q2459 q165 q2460 n_X26_masks ⟨by decide, by decide⟩ (Nat.le_of_ble_eq_true rfl) dX25_init_43) (zv_I fun v43 => ?_) (fun q => zx_thr x (fun z hz => (htab z hz).elim) q)
  refine z_ior (pc := 46) x dX25_init_46 ?_
  refine z_setF (pc := 47) (v := zI ((v32 ||| v37) ||| v43)) x in_X25 tyX25 tyX25_ok nmX25 (ci := 31) rfl (k := 4) (by decide) q2514 (fun _ h => h) rfl hnm rfl rfl rfl dX25_init_47 ?_
  refine z_aload_n (pc := 50) x 2 dX25_init_50 rfl rfl ?_
  refine z_call (pc := 51) (z_canIF (pc := 51) (As := []) (st := []) (x9 := ⟨"java/util/List", "iterator", "()Ljava/util/Iterator;"⟩) x (ci := 10) rfl (fun b => m_J2_iterator hl (some b)) q784 q383 q382 (by decide) q385 q387 q388 q386 q384 q112 q389 nx_java_util_List_iterator___Ljava_util_Iterator_ ⟨by decide, by decide⟩ (Nat.le_of_ble_eq_true rfl) dX25_init_51) (zv_R fun v51 => ?_) (fun q => zx_thr x (fun z hz => (htab z hz).elim) q)
  refine z_astore (pc := 56) (lv' := [(4, zP v51), (0, zP a0), (1, zP a1), (2, zP a2), (3, zP a3)]) x dX25_init_56 (Nat.le_of_ble_eq_true rfl) rfl ?_
  exact z_sub [1, 0] rfl (w_X25_init_58 x hl hret hnm htab zN a0 v51)
/-! X20_parseRule -/
def s_X20_parseRule_68 (E : zE) (a0 : Option Nat) (a1 : Int32) (a2 : Option Nat) (a3 : Option Nat) : zM := zNew 28 5 [.null, .int 0, .int 0, .int 0, .null] (fun v68 => zC (zSp v68 (fun b => s_X22_init E (some b) (some (E 43)) (97 : Int32) (-1 : Int32) (-1 : Int32))) zThr (zKV (zNew 31 5 [.null, .null, .null, .null, .int 0] (fun v85 => zGetR a0 27 0 (fun v92 => zGetI a0 27 1 (fun v97 => zC (zRv v92 [(15, fun b => s_J6_substring E (some b) a1 v97)]) zThr (zKR (fun v100 => zC (zSp v85 (fun b => s_X25_init E (some b) a2 a3 v100)) zThr (zKV (zSet E v68 28 4 (zVal (zP v85)) (zRet (some (va_rf v68)))))))))))))
theorem w_X20_parseRule_68 (x : zCx p l R s m args meth c E D tA cX20_parseRule 5 yX20_parseRule.cls 19) (hl : l.stackTraces = false) (hret : meth.sig.returnType = (Option.some (Jvm.ClassFile.FieldType.object "BrambleLogic$Command"))) (hnm : meth.name = yX20_parseRule.name) (htab : ∀ z ∈ c.exceptionTable.toList, False) (a0 : Option Nat) (a1 : Int32) (a2 : Option Nat) (a3 : Option Nat) : zW p l e R s m args below meth c E D tA 5 k0 (s_X20_parseRule_68 E a0 a1 a2 a3) [(0, zP a0), (1, zI a1), (2, zP a2), (3, zP a3)] 68 [] := by
  unfold s_X20_parseRule_68
  refine z_new (pc := 68) x in_X22 tyX22 tyX22_ok q2310 q2311 q161 (ci := 28) rfl (by decide) (by decide +kernel) dX20_parseRule_68 fun v68 => ?_
  refine z_dup (pc := 71) x dX20_parseRule_71 rfl ?_
  refine z_ldcS (pc := 72) x (k := 43) (List.mem_of_getElem? (i := 27) rfl) dX20_parseRule_72 ?_
  refine z_bipush (pc := 74) x (v := (97 : Int32)) dX20_parseRule_74 rfl ?_
  refine z_iconst (pc := 76) x (v := (-1 : Int32)) dX20_parseRule_76 rfl ?_
  refine z_iconst (pc := 77) x (v := (-1 : Int32)) dX20_parseRule_77 rfl ?_
  refine z_call (pc := 78) (z_canI (pc := 78) (ret := none) (As := [zP (some (E 43)), zI (97 : Int32), zI (-1 : Int32), zI (-1 : Int32)]) (st := [zP v68]) x (fun b => m_X22_init hl (some b) (some (E 43)) (97 : Int32) (-1 : Int32) (-1 : Int32)) q2312 rfl q2313 q161 q2314 n_X22_init ⟨by decide, by decide⟩ (Nat.le_of_ble_eq_true rfl) dX20_parseRule_78) (zv_V ?_) (fun q => zx_thr x (fun z hz => (htab z hz).elim) q)
  refine z_astore (pc := 81) (lv' := [(4, zP v68), (0, zP a0), (1, zI a1), (2, zP a2), (3, zP a3)]) x dX20_parseRule_81 (Nat.le_of_ble_eq_true rfl) rfl ?_
  refine z_aload (pc := 83) x 0 dX20_parseRule_83 rfl ?_
  refine z_new (pc := 85) x in_X25 tyX25 tyX25_ok q2419 q2420 q164 (ci := 31) rfl (by decide) (by decide +kernel) dX20_parseRule_85 fun v85 => ?_
  refine z_dup (pc := 88) x dX20_parseRule_88 rfl ?_
  refine z_aload_n (pc := 89) x 3 dX20_parseRule_89 rfl rfl ?_
  refine z_aload_n (pc := 90) x 4 dX20_parseRule_90 rfl rfl ?_
  refine z_aload_n (pc := 91) x 1 dX20_parseRule_91 rfl rfl ?_
  refine z_get (pc := 92) (fun _ _ h => zAsR_eq h) x in_X20 (ci := 27) rfl (k := 0) (by decide) q2169 (fun _ h => h) dX20_parseRule_92 fun v92 => ?_
  refine z_iload_n (pc := 95) x 2 dX20_parseRule_95 rfl rfl ?_
  refine z_aload_n (pc := 96) x 1 dX20_parseRule_96 rfl rfl ?_
  refine z_get (pc := 97) (fun _ _ h => zAsI_eq h) x in_X20 (ci := 27) rfl (k := 1) (by decide) q2170 (fun _ h => h) dX20_parseRule_97 fun v97 => ?_
  refine z_call (pc := 100) (z_canV (pc := 100) (As := [zI a1, zI v97]) (st := [zP a3, zP a2, zP v85, zP v85, zP v68]) x (ci := 15) rfl (fun b => m_J6_substring hl (some b) a1 v97) q2421 q2422 (x.2.2.2.2.1 _ q2423) q119 q2424 n_J6_substring ⟨by decide, by decide⟩ (Nat.le_of_ble_eq_true rfl) dX20_parseRule_100) (zv_R fun v100 => ?_) (fun q => zx_thr x (fun z hz => (htab z hz).elim) q)
  refine z_call (pc := 103) (z_canI (pc := 103) (ret := none) (As := [zP a2, zP a3, zP v100]) (st := [zP v85, zP v68]) x (fun b => m_X25_init hl (some b) a2 a3 v100) q2445 rfl q2446 q164 q2447 n_X25_init ⟨by decide, by decide⟩ (Nat.le_of_ble_eq_true rfl) dX20_parseRule_103) (zv_V ?_) (fun q => zx_thr x (fun z hz => (htab z hz).elim) q)
  refine z_setN (pc := 106) (v := zP v85) x in_X22 tyX22 tyX22_ok nmX22 (ci := 28) rfl (k := 4) (by decide) q2321 (fun _ h => h) rfl (zfitR rfl _).1 (zfitR rfl _).2 dX20_parseRule_106 ?_
  refine z_aload (pc := 109) x 0 dX20_parseRule_109 rfl ?_
  exact z_aret (pc := 111) x hret (Or.inl ⟨_, rfl⟩) dX20_parseRule_111
def s_X20_parseRule_35 (E : zE) : Nat → Option Nat → Int32 → Option Nat → Option Nat → zM
  | 0, _, _, _, _ => zFail
  | n + 1, a0, a1, a2, a3 => zC (zRv a3 [(10, fun b => s_J2_size E (some b))]) zThr (zKI (fun v36 => if (3 : Int32) ≤ v36 then (s_X20_parseRule_68 E a0 a1 a2 a3) else (zC (zRv a0 [(27, fun b => s_X20_accept E (some b) (44 : Int32))]) zThr (zKI (fun v48 => if v48 = 0 then (s_X20_parseRule_68 E a0 a1 a2 a3) else (zC (zRv a0 [(27, fun b => s_X20_parseLiteral E (some b))]) zThr (zKR (fun v56 => zC (zRv a3 [(10, fun b => s_J2_add E (some b) v56)]) zThr (zKI (fun v59 => (s_X20_parseRule_35 E n) a0 a1 a2 a3))))))))))
theorem w_X20_parseRule_35 (x : zCx p l R s m args meth c E D tA cX20_parseRule 5 yX20_parseRule.cls 19) (hl : l.stackTraces = false) (hret : meth.sig.returnType = (Option.some (Jvm.ClassFile.FieldType.object "BrambleLogic$Command"))) (hnm : meth.name = yX20_parseRule.name) (htab : ∀ z ∈ c.exceptionTable.toList, False) : ∀ (n : Nat) (a0 : Option Nat) (a1 : Int32) (a2 : Option Nat) (a3 : Option Nat), zW p l e R s m args below meth c E D tA 5 k0 (s_X20_parseRule_35 E n a0 a1 a2 a3) [(0, zP a0), (1, zI a1), (2, zP a2), (3, zP a3)] 35 [] := by
  intro n
  induction n with
  | zero => intro a0 a1 a2 a3; exact z_fail
  | succ n h35 =>
    intro a0 a1 a2 a3
    rw [s_X20_parseRule_35]
    refine z_aload_n (pc := 35) x 3 dX20_parseRule_35 rfl rfl ?_
    refine z_call (pc := 36) (z_canIF (pc := 36) (As := []) (st := []) (x9 := ⟨"java/util/List", "size", "()I"⟩) x (ci := 10) rfl (fun b => m_J2_size hl (some b)) q2417 q767 q766 (by decide) q768 q770 q771 q769 q384 q112 q772 nx_java_util_List_size___I ⟨by decide, by decide⟩ (Nat.le_of_ble_eq_true rfl) dX20_parseRule_36) (zv_I fun v36 => ?_) (fun q => zx_thr x (fun z hz => (htab z hz).elim) q)
    refine z_iconst (pc := 41) x (v := (3 : Int32)) dX20_parseRule_41 rfl ?_
    refine z_icmp_ge (pc := 42) (tgt := 68) x dX20_parseRule_42 rfl (fun _ => ?_) (fun _ => ?_)
    · exact z_sub [0, 1, 2, 3] rfl (w_X20_parseRule_68 x hl hret hnm htab a0 a1 a2 a3)
    · refine z_aload_n (pc := 45) x 0 dX20_parseRule_45 rfl rfl ?_
      refine z_bipush (pc := 46) x (v := (44 : Int32)) dX20_parseRule_46 rfl ?_
      refine z_call (pc := 48) (z_canV (pc := 48) (As := [zI (44 : Int32)]) (st := []) x (ci := 27) rfl (fun b => m_X20_accept hl (some b) (44 : Int32)) q2289 q2291 (z_selP x (ci := 27) rfl (by decide) (zNi_inst x q2163) q2290 q2291) q158 q2292 n_X20_accept ⟨by decide, by decide⟩ (Nat.le_of_ble_eq_true rfl) dX20_parseRule_48) (zv_I fun v48 => ?_) (fun q => zx_thr x (fun z hz => (htab z hz).elim) q)
      refine z_if_eq (pc := 51) (tgt := 68) x dX20_parseRule_51 rfl (fun _ => ?_) (fun _ => ?_)
      · exact z_sub [0, 1, 2, 3] rfl (w_X20_parseRule_68 x hl hret hnm htab a0 a1 a2 a3)
      · refine z_aload_n (pc := 54) x 3 dX20_parseRule_54 rfl rfl ?_
        refine z_aload_n (pc := 55) x 0 dX20_parseRule_55 rfl rfl ?_
        refine z_call (pc := 56) (z_canV (pc := 56) (As := []) (st := [zP a3]) x (ci := 27) rfl (fun b => m_X20_parseLiteral hl (some b)) q2381 q2383 (z_selP x (ci := 27) rfl (by decide) (zNi_inst x q2163) q2382 q2383) q158 q2384 n_X20_parseLiteral ⟨by decide, by decide⟩ (Nat.le_of_ble_eq_true rfl) dX20_parseRule_56) (zv_R fun v56 => ?_) (fun q => zx_thr x (fun z hz => (htab z hz).elim) q)
        refine z_call (pc := 59) (z_canIF (pc := 59) (As := [zP v56]) (st := []) (x9 := ⟨"java/util/List", "add", "(Ljava/lang/Object;)Z"⟩) x (ci := 10) rfl (fun b => m_J2_add hl (some b) v56) q2415 q660 q659 (by decide) q661 q663 q664 q662 q384 q112 q665 nx_java_util_List_add__Ljava_lang_Object__Z ⟨by decide, by decide⟩ (Nat.le_of_ble_eq_true rfl) dX20_parseRule_59) (zv_I fun v59 => ?_) (fun q => zx_thr x (fun z hz => (htab z hz).elim) q)
        refine z_pop (pc := 64) x dX20_parseRule_64 rfl ?_
        refine z_goto (pc := 65) (tgt := 35) x dX20_parseRule_65 rfl ?_
        exact z_sub [0, 1, 2, 3] rfl (h35 a0 a1 a2 a3)
def s_X20_parseRule (E : zE) (a0 : Option Nat) : zM := zGetI a0 27 1 (fun v1 => zC (zRv a0 [(27, fun b => s_X20_parseAtom E (some b))]) zThr (zKR (fun v6 => zC (zRv a0 [(27, fun b => s_X20_expectText E (some b) (some (E 42)))]) zThr (zKV (zNew 10 3 [.int 0, .null, .int 0] (fun v16 => zC (zSp v16 (fun b => s_J2_init E (some b))) zThr (zKV (zC (zRv a0 [(27, fun b => s_X20_parseLiteral E (some b))]) zThr (zKR (fun v26 => zC (zRv v16 [(10, fun b => s_J2_add E (some b) v26)]) zThr (zKI (fun v29 => s_X20_parseRule_35 E zN a0 v1 v6 v16))))))))))))
theorem m_X20_parseRule {l : Launch} {E : zE} {D : va_G} {tA : Nat → ClassId} (hl : l.stackTraces = false) (a0 : Option Nat) : zMet l E D tA yX20_parseRule (ws_ yX20_parseRule cX20_parseRule 5 (Option.some (Jvm.ClassFile.FieldType.object "BrambleLogic$Command"))) 19 (s_X20_parseRule E a0) [zP a0] := by
  refine z_met hl (by decide +kernel) (by rw [zSl_len]; exact (Nat.le_of_ble_eq_true rfl)) fun p e R s m args below meth c k0 x hret hnm htab => ?_
  refine z_lv [(0, zP a0)] rfl ?_
  unfold s_X20_parseRule
  refine z_aload_n (pc := 0) x 0 dX20_parseRule_0 rfl rfl ?_
  refine z_get (pc := 1) (fun _ _ h => zAsI_eq h) x in_X20 (ci := 27) rfl (k := 1) (by decide) q2170 (fun _ h => h) dX20_parseRule_1 fun v1 => ?_
  refine z_istore_n (pc := 4) (lv' := [(1, zI v1), (0, zP a0)]) x dX20_parseRule_4 rfl (Nat.le_of_ble_eq_true rfl) rfl ?_
  refine z_aload_n (pc := 5) x 1 dX20_parseRule_5 rfl rfl ?_
  refine z_call (pc := 6) (z_canV (pc := 6) (As := []) (st := []) x (ci := 27) rfl (fun b => m_X20_parseAtom hl (some b)) q2340 q2342 (z_selP x (ci := 27) rfl (by decide) (zNi_inst x q2163) q2341 q2342) q158 q2343 n_X20_parseAtom ⟨by decide, by decide⟩ (Nat.le_of_ble_eq_true rfl) dX20_parseRule_6) (zv_R fun v6 => ?_) (fun q => zx_thr x (fun z hz => (htab z hz).elim) q)
  refine z_astore_n (pc := 9) (lv' := [(2, zP v6), (1, zI v1), (0, zP a0)]) x dX20_parseRule_9 rfl (Nat.le_of_ble_eq_true rfl) rfl ?_
  refine z_aload_n (pc := 10) x 2 dX20_parseRule_10 rfl rfl ?_
  refine z_ldcS (pc := 11) x (k := 42) (List.mem_of_getElem? (i := 26) rfl) dX20_parseRule_11 ?_
  refine z_call (pc := 13) (z_canV (pc := 13) (As := [zP (some (E 42))]) (st := []) x (ci := 27) rfl (fun b => m_X20_expectText hl (some b) (some (E 42))) q2285 q2287 (z_selP x (ci := 27) rfl (by decide) (zNi_inst x q2163) q2286 q2287) q158 q2288 n_X20_expectText ⟨by decide, by decide⟩ (Nat.le_of_ble_eq_true rfl) dX20_parseRule_13) (zv_V ?_) (fun q => zx_thr x (fun z hz => (htab z hz).elim) q)
  refine z_new (pc := 16) x in_J2 tyJ2 tyJ2_ok q2235 q182 q112 (ci := 10) rfl (by decide) (by decide +kernel) dX20_parseRule_16 fun v16 => ?_
  refine z_dup (pc := 19) x dX20_parseRule_19 rfl ?_
  refine z_call (pc := 20) (z_canI (pc := 20) (ret := none) (As := []) (st := [zP v16]) x (fun b => m_J2_init hl (some b)) q2236 rfl q184 q112 q185 n_J2_init ⟨by decide, by decide⟩ (Nat.le_of_ble_eq_true rfl) dX20_parseRule_20) (zv_V ?_) (fun q => zx_thr x (fun z hz => (htab z hz).elim) q)
  refine z_astore_n (pc := 23) (lv' := [(3, zP v16), (2, zP v6), (1, zI v1), (0, zP a0)]) x dX20_parseRule_23 rfl (Nat.le_of_ble_eq_true rfl) rfl ?_
  refine z_aload_n (pc := 24) x 0 dX20_parseRule_24 rfl rfl ?_
  refine z_aload_n (pc := 25) x 3 dX20_parseRule_25 rfl rfl ?_
  refine z_call (pc := 26) (z_canV (pc := 26) (As := []) (st := [zP v16]) x (ci := 27) rfl (fun b => m_X20_parseLiteral hl (some b)) q2381 q2383 (z_selP x (ci := 27) rfl (by decide) (zNi_inst x q2163) q2382 q2383) q158 q2384 n_X20_parseLiteral ⟨by decide, by decide⟩ (Nat.le_of_ble_eq_true rfl) dX20_parseRule_26) (zv_R fun v26 => ?_) (fun q => zx_thr x (fun z hz => (htab z hz).elim) q)
  refine z_call (pc := 29) (z_canIF (pc := 29) (As := [zP v26]) (st := []) (x9 := ⟨"java/util/List", "add", "(Ljava/lang/Object;)Z"⟩) x (ci := 10) rfl (fun b => m_J2_add hl (some b) v26) q2415 q660 q659 (by decide) q661 q663 q664 q662 q384 q112 q665 nx_java_util_List_add__Ljava_lang_Object__Z ⟨by decide, by decide⟩ (Nat.le_of_ble_eq_true rfl) dX20_parseRule_29) (zv_I fun v29 => ?_) (fun q => zx_thr x (fun z hz => (htab z hz).elim) q)
  refine z_pop (pc := 34) x dX20_parseRule_34 rfl ?_
  exact z_sub [3, 2, 1, 0] rfl (w_X20_parseRule_35 x hl hret hnm htab zN a0 v1 v6 v16)
/-! X20_parseCommand -/
def s_X20_parseCommand (E : zE) (a0 : Option Nat) : zM := zC (zRv a0 [(27, fun b => s_X20_isNextBetween E (some b) (97 : Int32) (122 : Int32))]) zThr (zKI (fun v6 => zC (zRv a0 [(27, fun b => s_X20_expect E (some b) v6)]) zThr (zKV (zGetI a0 27 1 (fun v14 => zSet E a0 27 1 (zVal (zI (v14 + (1 : Int32)))) (zGetR a0 27 0 (fun v23 => zGetI a0 27 1 (fun v27 => zC (zRv v23 [(15, fun b => s_J6_charAt E (some b) (v27 - (1 : Int32)))]) zThr (zKI (fun v32 => if v32 = (100 : Int32) then (zC (zRv a0 [(27, fun b => s_X20_expectText E (some b) (some (E 44)))]) zThr (zKV (zNew 28 5 [.null, .int 0, .int 0, .int 0, .null] (fun v119 => zC (zRv a0 [(27, fun b => s_X20_parseDigit E (some b))]) zThr (zKI (fun v128 => zC (zSp v119 (fun b => s_X22_init E (some b) (some (E 45)) (97 : Int32) v128 (-1 : Int32))) zThr (zKV (zRet (some (va_rf v119)))))))))) else (if v32 = (102 : Int32) then (zC (zRv a0 [(27, fun b => s_X20_expectText E (some b) (some (E 34)))]) zThr (zKV (zC (zRv a0 [(27, fun b => s_X20_parseGround E (some b) (some (E 35)))]) zThr (zKR (fun v85 => zRet (some (va_rf v85))))))) else (if v32 = (114 : Int32) then (zC (zRv a0 [(27, fun b => s_X20_expectText E (some b) (some (E 41)))]) zThr (zKV (zC (zRv a0 [(27, fun b => s_X20_parseRule E (some b))]) zThr (zKR (fun v109 => zRet (some (va_rf v109))))))) else (if v32 = (116 : Int32) then (zC (zRv a0 [(27, fun b => s_X20_expectText E (some b) (some (E 39)))]) zThr (zKV (zC (zRv a0 [(27, fun b => s_X20_parseGround E (some b) (some (E 40)))]) zThr (zKR (fun v98 => zRet (some (va_rf v98))))))) else (zNew 1 7 [.int 0, .null] (fun v136 => zGetI a0 27 1 (fun v141 => zC (zSp v136 (fun b => s_X21_init E (some b) (v141 - (1 : Int32)))) zThr (zKV (zAth v136 zThr))))))))))))))))))
theorem m_X20_parseCommand {l : Launch} {E : zE} {D : va_G} {tA : Nat → ClassId} (hl : l.stackTraces = false) (a0 : Option Nat) : zMet l E D tA yX20_parseCommand (ws_ yX20_parseCommand cX20_parseCommand 1 (Option.some (Jvm.ClassFile.FieldType.object "BrambleLogic$Command"))) 20 (s_X20_parseCommand E a0) [zP a0] := by
  refine z_met hl (by decide +kernel) (by rw [zSl_len]; exact (Nat.le_of_ble_eq_true rfl)) fun p e R s m args below meth c k0 x hret hnm htab => ?_
  refine z_lv [(0, zP a0)] rfl ?_
  unfold s_X20_parseCommand
  refine z_aload_n (pc := 0) x 0 dX20_parseCommand_0 rfl rfl ?_
  refine z_aload_n (pc := 1) x 0 dX20_parseCommand_1 rfl rfl ?_
  refine z_bipush (pc := 2) x (v := (97 : Int32)) dX20_parseCommand_2 rfl ?_
  refine z_bipush (pc := 4) x (v := (122 : Int32)) dX20_parseCommand_4 rfl ?_
  refine z_call (pc := 6) (z_canV (pc := 6) (As := [zI (97 : Int32), zI (122 : Int32)]) (st := [zP a0]) x (ci := 27) rfl (fun b => m_X20_isNextBetween hl (some b) (97 : Int32) (122 : Int32)) q2241 q2243 (z_selP x (ci := 27) rfl (by decide) (zNi_inst x q2163) q2242 q2243) q158 q2244 n_X20_isNextBetween ⟨by decide, by decide⟩ (Nat.le_of_ble_eq_true rfl) dX20_parseCommand_6) (zv_I fun v6 => ?_) (fun q => zx_thr x (fun z hz => (htab z hz).elim) q)
  refine z_call (pc := 9) (z_canV (pc := 9) (As := [zI v6]) (st := []) x (ci := 27) rfl (fun b => m_X20_expect hl (some b) v6) q2261 q2263 (z_selP x (ci := 27) rfl (by decide) (zNi_inst x q2163) q2262 q2263) q158 q2264 n_X20_expect ⟨by decide, by decide⟩ (Nat.le_of_ble_eq_true rfl) dX20_parseCommand_9) (zv_V ?_) (fun q => zx_thr x (fun z hz => (htab z hz).elim) q)
  refine z_aload_n (pc := 12) x 0 dX20_parseCommand_12 rfl rfl ?_
  refine z_dup (pc := 13) x dX20_parseCommand_13 rfl ?_
  refine z_get (pc := 14) (fun _ _ h => zAsI_eq h) x in_X20 (ci := 27) rfl (k := 1) (by decide) q2170 (fun _ h => h) dX20_parseCommand_14 fun v14 => ?_
  refine z_iconst (pc := 17) x (v := (1 : Int32)) dX20_parseCommand_17 rfl ?_
  refine z_iadd (pc := 18) x dX20_parseCommand_18 ?_
  refine z_set (pc := 19) (v := zI (v14 + (1 : Int32))) x in_X20 tyX20 tyX20_ok nmX20 (ci := 27) rfl (k := 1) (by decide) q2170 (fun _ h => h) rfl rfl rfl dX20_parseCommand_19 ?_
  refine z_aload_n (pc := 22) x 0 dX20_parseCommand_22 rfl rfl ?_
  refine z_get (pc := 23) (fun _ _ h => zAsR_eq h) x in_X20 (ci := 27) rfl (k := 0) (by decide) q2169 (fun _ h => h) dX20_parseCommand_23 fun v23 => ?_
  refine z_aload_n (pc := 26) x 0 dX20_parseCommand_26 rfl rfl ?_
  refine z_get (pc := 27) (fun _ _ h => zAsI_eq h) x in_X20 (ci := 27) rfl (k := 1) (by decide) q2170 (fun _ h => h) dX20_parseCommand_27 fun v27 => ?_
  refine z_iconst (pc := 30) x (v := (1 : Int32)) dX20_parseCommand_30 rfl ?_
  refine z_isub (pc := 31) x dX20_parseCommand_31 ?_
  refine z_call (pc := 32) (z_canV (pc := 32) (As := [zI (v27 - (1 : Int32))]) (st := []) x (ci := 15) rfl (fun b => m_J6_charAt hl (some b) (v27 - (1 : Int32))) q2246 q2247 (x.2.2.2.2.1 _ q2248) q119 q2249 n_J6_charAt ⟨by decide, by decide⟩ (Nat.le_of_ble_eq_true rfl) dX20_parseCommand_32) (zv_I fun v32 => ?_) (fun q => zx_thr x (fun z hz => (htab z hz).elim) q)
  refine z_ite (fun e35_1 => ?_) (fun e35_1 => ?_)
  · refine z_lookup (pc := 35) (tgt := 113) x (78) dX20_parseCommand_35 (by decide) (by rw [e35_1]; rfl) rfl ?_
    refine z_aload_n (pc := 113) x 0 dX20_parseCommand_113 rfl rfl ?_
    refine z_ldcS (pc := 114) x (k := 44) (List.mem_of_getElem? (i := 28) rfl) dX20_parseCommand_114 ?_
    refine z_call (pc := 116) (z_canV (pc := 116) (As := [zP (some (E 44))]) (st := []) x (ci := 27) rfl (fun b => m_X20_expectText hl (some b) (some (E 44))) q2285 q2287 (z_selP x (ci := 27) rfl (by decide) (zNi_inst x q2163) q2286 q2287) q158 q2288 n_X20_expectText ⟨by decide, by decide⟩ (Nat.le_of_ble_eq_true rfl) dX20_parseCommand_116) (zv_V ?_) (fun q => zx_thr x (fun z hz => (htab z hz).elim) q)
    refine z_new (pc := 119) x in_X22 tyX22 tyX22_ok q2310 q2311 q161 (ci := 28) rfl (by decide) (by decide +kernel) dX20_parseCommand_119 fun v119 => ?_
    refine z_dup (pc := 122) x dX20_parseCommand_122 rfl ?_
    refine z_ldcS (pc := 123) x (k := 45) (List.mem_of_getElem? (i := 29) rfl) dX20_parseCommand_123 ?_
    refine z_bipush (pc := 125) x (v := (97 : Int32)) dX20_parseCommand_125 rfl ?_
    refine z_aload_n (pc := 127) x 0 dX20_parseCommand_127 rfl rfl ?_
    refine z_call (pc := 128) (z_canV (pc := 128) (As := []) (st := [zI (97 : Int32), zP (some (E 45)), zP v119, zP v119]) x (ci := 27) rfl (fun b => m_X20_parseDigit hl (some b)) q2303 q2305 (z_selP x (ci := 27) rfl (by decide) (zNi_inst x q2163) q2304 q2305) q158 q2306 n_X20_parseDigit ⟨by decide, by decide⟩ (Nat.le_of_ble_eq_true rfl) dX20_parseCommand_128) (zv_I fun v128 => ?_) (fun q => zx_thr x (fun z hz => (htab z hz).elim) q)
    refine z_iconst (pc := 131) x (v := (-1 : Int32)) dX20_parseCommand_131 rfl ?_
    refine z_call (pc := 132) (z_canI (pc := 132) (ret := none) (As := [zP (some (E 45)), zI (97 : Int32), zI v128, zI (-1 : Int32)]) (st := [zP v119]) x (fun b => m_X22_init hl (some b) (some (E 45)) (97 : Int32) v128 (-1 : Int32)) q2312 rfl q2313 q161 q2314 n_X22_init ⟨by decide, by decide⟩ (Nat.le_of_ble_eq_true rfl) dX20_parseCommand_132) (zv_V ?_) (fun q => zx_thr x (fun z hz => (htab z hz).elim) q)
    exact z_aret (pc := 135) x hret (Or.inl ⟨_, rfl⟩) dX20_parseCommand_135
  refine z_ite (fun e35_2 => ?_) (fun e35_2 => ?_)
  · refine z_lookup (pc := 35) (tgt := 76) x (41) dX20_parseCommand_35 (by decide) (by rw [e35_2]; rfl) rfl ?_
    refine z_aload_n (pc := 76) x 0 dX20_parseCommand_76 rfl rfl ?_
    refine z_ldcS (pc := 77) x (k := 34) (List.mem_of_getElem? (i := 18) rfl) dX20_parseCommand_77 ?_
    refine z_call (pc := 79) (z_canV (pc := 79) (As := [zP (some (E 34))]) (st := []) x (ci := 27) rfl (fun b => m_X20_expectText hl (some b) (some (E 34))) q2285 q2287 (z_selP x (ci := 27) rfl (by decide) (zNi_inst x q2163) q2286 q2287) q158 q2288 n_X20_expectText ⟨by decide, by decide⟩ (Nat.le_of_ble_eq_true rfl) dX20_parseCommand_79) (zv_V ?_) (fun q => zx_thr x (fun z hz => (htab z hz).elim) q)
    refine z_aload_n (pc := 82) x 0 dX20_parseCommand_82 rfl rfl ?_
    refine z_ldcS (pc := 83) x (k := 35) (List.mem_of_getElem? (i := 19) rfl) dX20_parseCommand_83 ?_
    refine z_call (pc := 85) (z_canV (pc := 85) (As := [zP (some (E 35))]) (st := []) x (ci := 27) rfl (fun b => m_X20_parseGround hl (some b) (some (E 35))) q2294 q2296 (z_selP x (ci := 27) rfl (by decide) (zNi_inst x q2163) q2295 q2296) q158 q2297 n_X20_parseGround ⟨by decide, by decide⟩ (Nat.le_of_ble_eq_true rfl) dX20_parseCommand_85) (zv_R fun v85 => ?_) (fun q => zx_thr x (fun z hz => (htab z hz).elim) q)
    exact z_aret (pc := 88) x hret (Or.inl ⟨_, rfl⟩) dX20_parseCommand_88
  refine z_ite (fun e35_3 => ?_) (fun e35_3 => ?_)
  · refine z_lookup (pc := 35) (tgt := 102) x (67) dX20_parseCommand_35 (by decide) (by rw [e35_3]; rfl) rfl ?_
    refine z_aload_n (pc := 102) x 0 dX20_parseCommand_102 rfl rfl ?_
    refine z_ldcS (pc := 103) x (k := 41) (List.mem_of_getElem? (i := 25) rfl) dX20_parseCommand_103 ?_
    refine z_call (pc := 105) (z_canV (pc := 105) (As := [zP (some (E 41))]) (st := []) x (ci := 27) rfl (fun b => m_X20_expectText hl (some b) (some (E 41))) q2285 q2287 (z_selP x (ci := 27) rfl (by decide) (zNi_inst x q2163) q2286 q2287) q158 q2288 n_X20_expectText ⟨by decide, by decide⟩ (Nat.le_of_ble_eq_true rfl) dX20_parseCommand_105) (zv_V ?_) (fun q => zx_thr x (fun z hz => (htab z hz).elim) q)
    refine z_aload_n (pc := 108) x 0 dX20_parseCommand_108 rfl rfl ?_
    refine z_call (pc := 109) (z_canV (pc := 109) (As := []) (st := []) x (ci := 27) rfl (fun b => m_X20_parseRule hl (some b)) q2336 q2338 (z_selP x (ci := 27) rfl (by decide) (zNi_inst x q2163) q2337 q2338) q158 q2339 n_X20_parseRule ⟨by decide, by decide⟩ (Nat.le_of_ble_eq_true rfl) dX20_parseCommand_109) (zv_R fun v109 => ?_) (fun q => zx_thr x (fun z hz => (htab z hz).elim) q)
    exact z_aret (pc := 112) x hret (Or.inl ⟨_, rfl⟩) dX20_parseCommand_112
  refine z_ite (fun e35_4 => ?_) (fun e35_4 => ?_)
  · refine z_lookup (pc := 35) (tgt := 89) x (54) dX20_parseCommand_35 (by decide) (by rw [e35_4]; rfl) rfl ?_
    refine z_aload_n (pc := 89) x 0 dX20_parseCommand_89 rfl rfl ?_
    refine z_ldcS (pc := 90) x (k := 39) (List.mem_of_getElem? (i := 23) rfl) dX20_parseCommand_90 ?_
    refine z_call (pc := 92) (z_canV (pc := 92) (As := [zP (some (E 39))]) (st := []) x (ci := 27) rfl (fun b => m_X20_expectText hl (some b) (some (E 39))) q2285 q2287 (z_selP x (ci := 27) rfl (by decide) (zNi_inst x q2163) q2286 q2287) q158 q2288 n_X20_expectText ⟨by decide, by decide⟩ (Nat.le_of_ble_eq_true rfl) dX20_parseCommand_92) (zv_V ?_) (fun q => zx_thr x (fun z hz => (htab z hz).elim) q)
    refine z_aload_n (pc := 95) x 0 dX20_parseCommand_95 rfl rfl ?_
    refine z_ldcS (pc := 96) x (k := 40) (List.mem_of_getElem? (i := 24) rfl) dX20_parseCommand_96 ?_
    refine z_call (pc := 98) (z_canV (pc := 98) (As := [zP (some (E 40))]) (st := []) x (ci := 27) rfl (fun b => m_X20_parseGround hl (some b) (some (E 40))) q2294 q2296 (z_selP x (ci := 27) rfl (by decide) (zNi_inst x q2163) q2295 q2296) q158 q2297 n_X20_parseGround ⟨by decide, by decide⟩ (Nat.le_of_ble_eq_true rfl) dX20_parseCommand_98) (zv_R fun v98 => ?_) (fun q => zx_thr x (fun z hz => (htab z hz).elim) q)
    exact z_aret (pc := 101) x hret (Or.inl ⟨_, rfl⟩) dX20_parseCommand_101
  refine z_lookup (pc := 35) (tgt := 136) x (101) dX20_parseCommand_35 (by decide) (by show Op.lookupswitch.offset [(100, 78), (102, 41), (114, 67), (116, 54)] _ _ = _; rw [lv_osw (a := 100) e35_1 rfl, lv_osw (a := 102) e35_2 rfl, lv_osw (a := 114) e35_3 rfl, lv_osw (a := 116) e35_4 rfl]; rfl) rfl ?_
  refine z_new (pc := 136) x in_ZX21 tyZX21 tyZX21_ok q2265 q2266 q160 (ci := 1) rfl (by decide) (by decide +kernel) dX20_parseCommand_136 fun v136 => ?_
  refine z_dup (pc := 139) x dX20_parseCommand_139 rfl ?_
  refine z_aload_n (pc := 140) x 0 dX20_parseCommand_140 rfl rfl ?_
  refine z_get (pc := 141) (fun _ _ h => zAsI_eq h) x in_X20 (ci := 27) rfl (k := 1) (by decide) q2170 (fun _ h => h) dX20_parseCommand_141 fun v141 => ?_
  refine z_iconst (pc := 144) x (v := (1 : Int32)) dX20_parseCommand_144 rfl ?_
  refine z_isub (pc := 145) x dX20_parseCommand_145 ?_
  refine z_call (pc := 146) (z_canI (pc := 146) (ret := none) (As := [zI (v141 - (1 : Int32))]) (st := [zP v136]) x (fun b => m_X21_init hl (some b) (v141 - (1 : Int32))) q2274 rfl q2275 q160 q2276 n_X21_init ⟨by decide, by decide⟩ (Nat.le_of_ble_eq_true rfl) dX20_parseCommand_146) (zv_V ?_) (fun q => zx_thr x (fun z hz => (htab z hz).elim) q)
  exact z_athrow (pc := 149) x dX20_parseCommand_149 (fun q => zx_thr x (fun z hz => (htab z hz).elim) q)
/-! X20_parseProgram -/
def s_X20_parseProgram_48 (E : zE) (a1 : Option Nat) (b0 : Option Nat) (b1 : Int32) : zM := zC (zRv b0 [(27, fun b => s_X20_expect E (some b) b1)]) zThr (zKV (zRet (some (va_rf a1))))
theorem w_X20_parseProgram_48 (x : zCx p l R s m args meth c E D tA cX20_parseProgram 2 yX20_parseProgram.cls 21) (hl : l.stackTraces = false) (hret : meth.sig.returnType = (Option.some (Jvm.ClassFile.FieldType.object "java/util/List"))) (hnm : meth.name = yX20_parseProgram.name) (htab : ∀ z ∈ c.exceptionTable.toList, False) (a1 : Option Nat) (b0 : Option Nat) (b1 : Int32) : zW p l e R s m args below meth c E D tA 2 k0 (s_X20_parseProgram_48 E a1 b0 b1) [(1, zP a1)] 48 [zI b1, zP b0] := by
  unfold s_X20_parseProgram_48
  refine z_call (pc := 48) (z_canV (pc := 48) (As := [zI b1]) (st := []) x (ci := 27) rfl (fun b => m_X20_expect hl (some b) b1) q2261 q2263 (z_selP x (ci := 27) rfl (by decide) (zNi_inst x q2163) q2262 q2263) q158 q2264 n_X20_expect ⟨by decide, by decide⟩ (Nat.le_of_ble_eq_true rfl) dX20_parseProgram_48) (zv_V ?_) (fun q => zx_thr x (fun z hz => (htab z hz).elim) q)
  refine z_aload_n (pc := 51) x 0 dX20_parseProgram_51 rfl rfl ?_
  exact z_aret (pc := 52) x hret (Or.inl ⟨_, rfl⟩) dX20_parseProgram_52
def s_X20_parseProgram_8 (E : zE) : Nat → Option Nat → Option Nat → zM
  | 0, _, _ => zFail
  | n + 1, a0, a1 => zC (zRv a0 [(27, fun b => s_X20_parseCommand E (some b))]) zThr (zKR (fun v10 => zC (zRv a1 [(10, fun b => s_J2_add E (some b) v10)]) zThr (zKI (fun v13 => zC (zRv a0 [(27, fun b => s_X20_accept E (some b) (59 : Int32))]) zThr (zKI (fun v22 => if v22 = 0 then (zGetI a0 27 1 (fun v30 => zGetR a0 27 0 (fun v34 => zC (zRv v34 [(15, fun b => s_J6_length E (some b))]) zThr (zKI (fun v37 => if v30 = v37 then (s_X20_parseProgram_48 E a1 a0 (1 : Int32)) else (s_X20_parseProgram_48 E a1 a0 (0 : Int32))))))) else ((s_X20_parseProgram_8 E n) a0 a1)))))))
theorem w_X20_parseProgram_8 (x : zCx p l R s m args meth c E D tA cX20_parseProgram 2 yX20_parseProgram.cls 21) (hl : l.stackTraces = false) (hret : meth.sig.returnType = (Option.some (Jvm.ClassFile.FieldType.object "java/util/List"))) (hnm : meth.name = yX20_parseProgram.name) (htab : ∀ z ∈ c.exceptionTable.toList, False) : ∀ (n : Nat) (a0 : Option Nat) (a1 : Option Nat), zW p l e R s m args below meth c E D tA 2 k0 (s_X20_parseProgram_8 E n a0 a1) [(0, zP a0), (1, zP a1)] 8 [] := by
  intro n
  induction n with
  | zero => intro a0 a1; exact z_fail
  | succ n h8 =>
    intro a0 a1
    rw [s_X20_parseProgram_8]
    refine z_aload_n (pc := 8) x 1 dX20_parseProgram_8 rfl rfl ?_
    refine z_aload_n (pc := 9) x 0 dX20_parseProgram_9 rfl rfl ?_
    refine z_call (pc := 10) (z_canV (pc := 10) (As := []) (st := [zP a1]) x (ci := 27) rfl (fun b => m_X20_parseCommand hl (some b)) q2237 q2239 (z_selP x (ci := 27) rfl (by decide) (zNi_inst x q2163) q2238 q2239) q158 q2240 n_X20_parseCommand ⟨by decide, by decide⟩ (Nat.le_of_ble_eq_true rfl) dX20_parseProgram_10) (zv_R fun v10 => ?_) (fun q => zx_thr x (fun z hz => (htab z hz).elim) q)
    refine z_call (pc := 13) (z_canIF (pc := 13) (As := [zP v10]) (st := []) (x9 := ⟨"java/util/List", "add", "(Ljava/lang/Object;)Z"⟩) x (ci := 10) rfl (fun b => m_J2_add hl (some b) v10) q2415 q660 q659 (by decide) q661 q663 q664 q662 q384 q112 q665 nx_java_util_List_add__Ljava_lang_Object__Z ⟨by decide, by decide⟩ (Nat.le_of_ble_eq_true rfl) dX20_parseProgram_13) (zv_I fun v13 => ?_) (fun q => zx_thr x (fun z hz => (htab z hz).elim) q)
    refine z_pop (pc := 18) x dX20_parseProgram_18 rfl ?_
    refine z_aload_n (pc := 19) x 0 dX20_parseProgram_19 rfl rfl ?_
    refine z_bipush (pc := 20) x (v := (59 : Int32)) dX20_parseProgram_20 rfl ?_
    refine z_call (pc := 22) (z_canV (pc := 22) (As := [zI (59 : Int32)]) (st := []) x (ci := 27) rfl (fun b => m_X20_accept hl (some b) (59 : Int32)) q2289 q2291 (z_selP x (ci := 27) rfl (by decide) (zNi_inst x q2163) q2290 q2291) q158 q2292 n_X20_accept ⟨by decide, by decide⟩ (Nat.le_of_ble_eq_true rfl) dX20_parseProgram_22) (zv_I fun v22 => ?_) (fun q => zx_thr x (fun z hz => (htab z hz).elim) q)
    refine z_if_ne (pc := 25) (tgt := 8) x dX20_parseProgram_25 rfl (fun _ => ?_) (fun _ => ?_)
    · refine z_aload_n (pc := 28) x 0 dX20_parseProgram_28 rfl rfl ?_
      refine z_aload_n (pc := 29) x 0 dX20_parseProgram_29 rfl rfl ?_
      refine z_get (pc := 30) (fun _ _ h => zAsI_eq h) x in_X20 (ci := 27) rfl (k := 1) (by decide) q2170 (fun _ h => h) dX20_parseProgram_30 fun v30 => ?_
      refine z_aload_n (pc := 33) x 0 dX20_parseProgram_33 rfl rfl ?_
      refine z_get (pc := 34) (fun _ _ h => zAsR_eq h) x in_X20 (ci := 27) rfl (k := 0) (by decide) q2169 (fun _ h => h) dX20_parseProgram_34 fun v34 => ?_
      refine z_call (pc := 37) (z_canV (pc := 37) (As := []) (st := [zI v30, zP a0]) x (ci := 15) rfl (fun b => m_J6_length hl (some b)) q2245 q1283 (x.2.2.2.2.1 _ q1284) q119 q1285 n_J6_length ⟨by decide, by decide⟩ (Nat.le_of_ble_eq_true rfl) dX20_parseProgram_37) (zv_I fun v37 => ?_) (fun q => zx_thr x (fun z hz => (htab z hz).elim) q)
      refine z_icmp_ne (pc := 40) (tgt := 47) x dX20_parseProgram_40 rfl (fun _ => ?_) (fun _ => ?_)
      · refine z_iconst (pc := 43) x (v := (1 : Int32)) dX20_parseProgram_43 rfl ?_
        refine z_goto (pc := 44) (tgt := 48) x dX20_parseProgram_44 rfl ?_
        exact z_sub [1] rfl (w_X20_parseProgram_48 x hl hret hnm htab a1 a0 (1 : Int32))
      · refine z_iconst (pc := 47) x (v := (0 : Int32)) dX20_parseProgram_47 rfl ?_
        exact z_sub [1] rfl (w_X20_parseProgram_48 x hl hret hnm htab a1 a0 (0 : Int32))
    · exact z_sub [0, 1] rfl (h8 a0 a1)
def s_X20_parseProgram (E : zE) (a0 : Option Nat) : zM := zNew 10 3 [.int 0, .null, .int 0] (fun v0 => zC (zSp v0 (fun b => s_J2_init E (some b))) zThr (zKV (s_X20_parseProgram_8 E zN a0 v0)))
theorem m_X20_parseProgram {l : Launch} {E : zE} {D : va_G} {tA : Nat → ClassId} (hl : l.stackTraces = false) (a0 : Option Nat) : zMet l E D tA yX20_parseProgram (ws_ yX20_parseProgram cX20_parseProgram 2 (Option.some (Jvm.ClassFile.FieldType.object "java/util/List"))) 21 (s_X20_parseProgram E a0) [zP a0] := by
  refine z_met hl (by decide +kernel) (by rw [zSl_len]; exact (Nat.le_of_ble_eq_true rfl)) fun p e R s m args below meth c k0 x hret hnm htab => ?_
  refine z_lv [(0, zP a0)] rfl ?_
  unfold s_X20_parseProgram
  refine z_new (pc := 0) x in_J2 tyJ2 tyJ2_ok q2235 q182 q112 (ci := 10) rfl (by decide) (by decide +kernel) dX20_parseProgram_0 fun v0 => ?_
  refine z_dup (pc := 3) x dX20_parseProgram_3 rfl ?_
  refine z_call (pc := 4) (z_canI (pc := 4) (ret := none) (As := []) (st := [zP v0]) x (fun b => m_J2_init hl (some b)) q2236 rfl q184 q112 q185 n_J2_init ⟨by decide, by decide⟩ (Nat.le_of_ble_eq_true rfl) dX20_parseProgram_4) (zv_V ?_) (fun q => zx_thr x (fun z hz => (htab z hz).elim) q)
  refine z_astore_n (pc := 7) (lv' := [(1, zP v0), (0, zP a0)]) x dX20_parseProgram_7 rfl (Nat.le_of_ble_eq_true rfl) rfl ?_
  exact z_sub [1, 0] rfl (w_X20_parseProgram_8 x hl hret hnm htab zN a0 v0)
/-! X1_parseBuffer -/
def s_X1_parseBuffer_22 (E : zE) (a0 : Option Nat) (b0 : Option Nat) : zM := zGetI b0 1 0 (fun v25 => zSet E a0 16 6 (zVal (zI v25)) (zNew 3 6 [] (fun v31 => zAth v31 zThr)))
theorem w_X1_parseBuffer_22 (x : zCx p l R s m args meth c E D tA cX1_parseBuffer 3 yX1_parseBuffer.cls 22) (hl : l.stackTraces = false) (hret : meth.sig.returnType = (Option.some (Jvm.ClassFile.FieldType.object "java/util/List"))) (hnm : meth.name = yX1_parseBuffer.name) (htab : c.exceptionTable.toList = tableOf [(17, 21, 22, 341)]) (a0 : Option Nat) (b0 : Option Nat) : zW p l e R s m args below meth c E D tA 3 k0 (s_X1_parseBuffer_22 E a0 b0) [(0, zP a0)] 22 [zP b0] := by
  unfold s_X1_parseBuffer_22
  refine z_astore_n (pc := 22) (lv' := [(2, zP b0), (0, zP a0)]) x dX1_parseBuffer_22 rfl (Nat.le_of_ble_eq_true rfl) rfl ?_
  refine z_aload_n (pc := 23) x 1 dX1_parseBuffer_23 rfl rfl ?_
  refine z_aload_n (pc := 24) x 0 dX1_parseBuffer_24 rfl rfl ?_
  refine z_getN (pc := 25) (fun _ _ h => zAsI_eq h) x in_ZX21 (ci := 1) rfl (k := 0) (by decide) q2279 (fun _ h => h) dX1_parseBuffer_25 fun v25 => ?_
  refine z_set (pc := 28) (v := zI v25) x in_X1 tyX1 tyX1_ok nmX1 (ci := 16) rfl (k := 6) (by decide) q327 (fun _ h => h) rfl rfl rfl dX1_parseBuffer_28 ?_
  refine z_exc (pc := 31) x ["java/lang/RuntimeException", "java/lang/Exception"] (by decide) (by decide +kernel) (by decide +kernel) q1528 q126 (zx_at0 x zxa_IllegalArgumentException q1529) (List.all_eq_true.mp (by decide +kernel)) (ci := 3) rfl (by show 2 + 3 < _; omega) (zSum (k := 0) rfl (by show _ + (13 * (2 + 1) + 42) ≤ _; omega)) dX1_parseBuffer_31 dX1_parseBuffer_34 dX1_parseBuffer_35 fun v31 => ?_
  exact z_athrow (pc := 38) x dX1_parseBuffer_38 (fun q => zx_thr x (by rw [htab]; decide +kernel) q)
def s_X1_parseBuffer (E : zE) (a0 : Option Nat) : zM := zNew 27 3 [.null, .int 0, .null] (fun v0 => zC (zSp v0 (fun b => s_X20_init E (some b) a0)) zThr (zKV (zGetR a0 16 4 (fun v10 => zC (zRv v10 [(14, fun b => s_J5_setLength E (some b) (0 : Int32))]) zThr (zKV (zC (zRv v0 [(27, fun b => s_X20_parseProgram E (some b))]) (fun q => zCat1 q [(11, s_X1_parseBuffer_22 E a0 (some q))]) (zKR (fun v18 => zRet (some (va_rf v18))))))))))
theorem m_X1_parseBuffer {l : Launch} {E : zE} {D : va_G} {tA : Nat → ClassId} (hl : l.stackTraces = false) (a0 : Option Nat) : zMet l E D tA yX1_parseBuffer (wsW_ yX1_parseBuffer cX1_parseBuffer 3 (Option.some (Jvm.ClassFile.FieldType.object "java/util/List")) [(17, 21, 22, 341)]) 22 (s_X1_parseBuffer E a0) [zP a0] := by
  refine z_metW hl (by decide +kernel) (by rw [zSl_len]; exact (Nat.le_of_ble_eq_true rfl)) fun p e R s m args below meth c k0 x hret hnm htab => ?_
  refine z_lv [(0, zP a0)] rfl ?_
  unfold s_X1_parseBuffer
  refine z_new (pc := 0) x in_X20 tyX20 tyX20_ok q2162 q2163 q158 (ci := 27) rfl (by decide) (by decide +kernel) dX1_parseBuffer_0 fun v0 => ?_
  refine z_dup (pc := 3) x dX1_parseBuffer_3 rfl ?_
  refine z_aload_n (pc := 4) x 0 dX1_parseBuffer_4 rfl rfl ?_
  refine z_call (pc := 5) (z_canIN (pc := 5) (ret := none) (As := [zP a0]) (st := [zP v0]) x (fun b => m_X20_init hl (some b) a0) q2164 rfl q2165 q158 q2166 n_X20_init ⟨by decide, by decide⟩ (Nat.le_of_ble_eq_true rfl) dX1_parseBuffer_5) (zv_V ?_) (fun q => zx_thr x (by rw [htab]; decide +kernel) q)
  refine z_astore_n (pc := 8) (lv' := [(1, zP v0), (0, zP a0)]) x dX1_parseBuffer_8 rfl (Nat.le_of_ble_eq_true rfl) rfl ?_
  refine z_aload_n (pc := 9) x 1 dX1_parseBuffer_9 rfl rfl ?_
  refine z_get (pc := 10) (fun _ _ h => zAsR_eq h) x in_X1 (ci := 16) rfl (k := 4) (by decide) q325 (fun _ h => h) dX1_parseBuffer_10 fun v10 => ?_
  refine z_iconst (pc := 13) x (v := (0 : Int32)) dX1_parseBuffer_13 rfl ?_
  refine z_call (pc := 14) (z_canV (pc := 14) (As := [zI (0 : Int32)]) (st := []) x (ci := 14) rfl (fun b => m_J5_setLength hl (some b) (0 : Int32)) q2179 q2180 (x.2.2.2.2.1 _ q2181) q118 q2182 n_J5_setLength ⟨by decide, by decide⟩ (Nat.le_of_ble_eq_true rfl) dX1_parseBuffer_14) (zv_V ?_) (fun q => zx_thr x (by rw [htab]; decide +kernel) q)
  refine z_aload_n (pc := 17) x 0 dX1_parseBuffer_17 rfl rfl ?_
  refine z_call (pc := 18) (z_canV (pc := 18) (As := []) (st := []) x (ci := 27) rfl (fun b => m_X20_parseProgram hl (some b)) q2231 q2232 (x.2.2.2.2.1 _ q2233) q158 q2234 n_X20_parseProgram ⟨by decide, by decide⟩ (Nat.le_of_ble_eq_true rfl) dX1_parseBuffer_18) (zv_R fun v18 => ?_) (fun q => zx_cat x [(11, s_X1_parseBuffer_22 E a0 (some q), ⟨17, 21, 22, 341⟩)] htab (List.forall_mem_cons.mpr ⟨⟨rfl, (show (341 : Nat) ≠ 0 by decide), q2161, z_sub [1] rfl (w_X1_parseBuffer_22 x hl hret hnm htab a0 (some q))⟩, (fun _ hj => nomatch hj)⟩))
  exact z_aret (pc := 21) x hret (Or.inl ⟨_, rfl⟩) dX1_parseBuffer_21
end ZGEN4
