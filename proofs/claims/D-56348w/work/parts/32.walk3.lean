/-! ===== walks (by program) ===== -/
set_option maxRecDepth 100000
set_option linter.unusedVariables false
section ZGEN3
variable {p : Program} {l : Launch} {e : Env} {R : Room} {s : State} {m : MethodId} {args : Array Value} {below : List Frame} {meth : Method} {c : Code} {E : zE} {D : va_G} {tA : Nat → ClassId} {k0 : Nat}
/-! X12_byLevels -/
def s_X12_byLevels_2 (E : zE) : Nat → Option Nat → Int32 → zM
  | 0, _, _ => zFail
  | n + 1, a0, a1 => zC (zRv a0 [(18, fun b => s_X12_hasOpen E (some b))]) zThr (zKI (fun v3 => if v3 = 0 then (zRet (some (va_rf a0))) else (zNew 20 2 [.int 0, .null] (fun v12 => zC (zSp v12 (fun b => s_X14_init E (some b) a0 a1)) zThr (zKV (zC (zRv a0 [(18, fun b => s_X12_takeAll E (some b) v12)]) zThr (zKV ((s_X12_byLevels_2 E n) a0 (a1 + (1 : Int32))))))))))
theorem w_X12_byLevels_2 (x : zCx p l R s m args meth c E D tA cX12_byLevels 3 yX12_byLevels.cls 74) (hl : l.stackTraces = false) (hret : meth.sig.returnType = (Option.some (Jvm.ClassFile.FieldType.object "BrambleLogic$Heights"))) (hnm : meth.name = yX12_byLevels.name) (htab : ∀ z ∈ c.exceptionTable.toList, False) : ∀ (n : Nat) (a0 : Option Nat) (a1 : Int32), zW p l e R s m args below meth c E D tA 3 k0 (s_X12_byLevels_2 E n a0 a1) [(0, zP a0), (1, zI a1)] 2 [] := by
  intro n
  induction n with
  | zero => intro a0 a1; exact z_fail
  | succ n h2 =>
    intro a0 a1
    rw [s_X12_byLevels_2]
    refine z_aload_n (pc := 2) x 0 dX12_byLevels_2 rfl rfl ?_
    refine z_call (pc := 3) (z_canV (pc := 3) (As := []) (st := []) x (ci := 18) rfl (fun b => m_X12_hasOpen hl (some b)) q1037 q1039 (z_selP x (ci := 18) rfl (by decide) (zNi_inst x q952) q1038 q1039) q148 q1040 n_X12_hasOpen ⟨by decide, by decide⟩ (Nat.le_of_ble_eq_true rfl) dX12_byLevels_3) (zv_I fun v3 => ?_) (fun q => zx_thr x (fun z hz => (htab z hz).elim) q)
    refine z_if_eq (pc := 6) (tgt := 30) x dX12_byLevels_6 rfl (fun _ => ?_) (fun _ => ?_)
    · refine z_aload_n (pc := 30) x 0 dX12_byLevels_30 rfl rfl ?_
      exact z_aret (pc := 31) x hret (Or.inl ⟨_, rfl⟩) dX12_byLevels_31
    · refine z_iload_n (pc := 9) x 1 dX12_byLevels_9 rfl rfl ?_
      refine z_istore_n (pc := 10) (lv' := [(2, zI a1), (0, zP a0), (1, zI a1)]) x dX12_byLevels_10 rfl (Nat.le_of_ble_eq_true rfl) rfl ?_
      refine z_aload_n (pc := 11) x 1 dX12_byLevels_11 rfl rfl ?_
      refine z_new (pc := 12) x in_X14 tyX14 tyX14_ok q1041 q1042 q150 (ci := 20) rfl (by decide) (by decide +kernel) dX12_byLevels_12 fun v12 => ?_
      refine z_dup (pc := 15) x dX12_byLevels_15 rfl ?_
      refine z_aload_n (pc := 16) x 1 dX12_byLevels_16 rfl rfl ?_
      refine z_iload_n (pc := 17) x 0 dX12_byLevels_17 rfl rfl ?_
      refine z_call (pc := 18) (z_canI (pc := 18) (ret := none) (As := [zP a0, zI a1]) (st := [zP v12, zP a0]) x (fun b => m_X14_init hl (some b) a0 a1) q1043 rfl q1044 q150 q1045 n_X14_init ⟨by decide, by decide⟩ (Nat.le_of_ble_eq_true rfl) dX12_byLevels_18) (zv_V ?_) (fun q => zx_thr x (fun z hz => (htab z hz).elim) q)
      refine z_call (pc := 21) (z_canV (pc := 21) (As := [zP v12]) (st := []) x (ci := 18) rfl (fun b => m_X12_takeAll hl (some b) v12) q1026 q1028 (z_selP x (ci := 18) rfl (by decide) (zNi_inst x q952) q1027 q1028) q148 q1029 n_X12_takeAll ⟨by decide, by decide⟩ (Nat.le_of_ble_eq_true rfl) dX12_byLevels_21) (zv_V ?_) (fun q => zx_thr x (fun z hz => (htab z hz).elim) q)
      refine z_iinc (pc := 24) (lv' := [(1, zI (a1 + (1 : Int32))), (2, zI a1), (0, zP a0)]) x (v2 := (a1 + (1 : Int32))) 2 dX12_byLevels_24 rfl rfl (Nat.le_of_ble_eq_true rfl) rfl ?_
      refine z_goto (pc := 27) (tgt := 2) x dX12_byLevels_27 rfl ?_
      exact z_sub [2, 0] rfl (h2 a0 (a1 + (1 : Int32)))
def s_X12_byLevels (E : zE) (a0 : Option Nat) : zM := s_X12_byLevels_2 E zN a0 (1 : Int32)
theorem m_X12_byLevels {l : Launch} {E : zE} {D : va_G} {tA : Nat → ClassId} (hl : l.stackTraces = false) (a0 : Option Nat) : zMet l E D tA yX12_byLevels (ws_ yX12_byLevels cX12_byLevels 3 (Option.some (Jvm.ClassFile.FieldType.object "BrambleLogic$Heights"))) 74 (s_X12_byLevels E a0) [zP a0] := by
  refine z_met hl (by decide +kernel) (by rw [zSl_len]; exact (Nat.le_of_ble_eq_true rfl)) fun p e R s m args below meth c k0 x hret hnm htab => ?_
  refine z_lv [(0, zP a0)] rfl ?_
  unfold s_X12_byLevels
  refine z_iconst (pc := 0) x (v := (1 : Int32)) dX12_byLevels_0 rfl ?_
  refine z_istore_n (pc := 1) (lv' := [(1, zI (1 : Int32)), (0, zP a0)]) x dX12_byLevels_1 rfl (Nat.le_of_ble_eq_true rfl) rfl ?_
  exact z_sub [1, 0] rfl (w_X12_byLevels_2 x hl hret hnm htab zN a0 (1 : Int32))
/-! X1_heightByLevels -/
def s_X1_heightByLevels (E : zE) (a0 : Option Nat) (a1 : Int32) (a2 : Int32) (a3 : Int32) : zM := zC (zRv a0 [(16, fun b => s_X1_requireTrue E (some b) a1 a2 a3)]) zThr (zKI (fun v4 => zNew 18 2 [.null, .null] (fun v9 => zGetR a0 16 0 (fun v14 => zC (zSp v9 (fun b => s_X12_init E (some b) v14)) zThr (zKV (zC (zRv v9 [(18, fun b => s_X12_byLevels E (some b))]) zThr (zKR (fun v20 => zGetR v20 18 1 (fun v23 => zGaR 7 v23 (a1 - (97 : Int32)) (fun v30 => zGaI 0 v30 v4 (fun v33 => zRet (some (.int v33)))))))))))))
theorem m_X1_heightByLevels {l : Launch} {E : zE} {D : va_G} {tA : Nat → ClassId} (hl : l.stackTraces = false) (a0 : Option Nat) (a1 : Int32) (a2 : Int32) (a3 : Int32) : zMet l E D tA yX1_heightByLevels (ws_ yX1_heightByLevels cX1_heightByLevels 5 (Option.some Jvm.ClassFile.FieldType.int)) 75 (s_X1_heightByLevels E a0 a1 a2 a3) [zP a0, zI a1, zI a2, zI a3] := by
  refine z_met hl (by decide +kernel) (by rw [zSl_len]; exact (Nat.le_of_ble_eq_true rfl)) fun p e R s m args below meth c k0 x hret hnm htab => ?_
  refine z_lv [(0, zP a0), (1, zI a1), (2, zI a2), (3, zI a3)] rfl ?_
  unfold s_X1_heightByLevels
  refine z_aload_n (pc := 0) x 0 dX1_heightByLevels_0 rfl rfl ?_
  refine z_iload_n (pc := 1) x 1 dX1_heightByLevels_1 rfl rfl ?_
  refine z_iload_n (pc := 2) x 2 dX1_heightByLevels_2 rfl rfl ?_
  refine z_iload_n (pc := 3) x 3 dX1_heightByLevels_3 rfl rfl ?_
  refine z_call (pc := 4) (z_canV (pc := 4) (As := [zI a1, zI a2, zI a3]) (st := []) x (ci := 16) rfl (fun b => m_X1_requireTrue hl (some b) a1 a2 a3) q1813 q1815 (z_selP x (ci := 16) rfl (by decide) (zNi_inst x q168) q1814 q1815) q108 q1816 n_X1_requireTrue ⟨by decide, by decide⟩ (Nat.le_of_ble_eq_true rfl) dX1_heightByLevels_4) (zv_I fun v4 => ?_) (fun q => zx_thr x (fun z hz => (htab z hz).elim) q)
  refine z_istore (pc := 7) (lv' := [(4, zI v4), (0, zP a0), (1, zI a1), (2, zI a2), (3, zI a3)]) x dX1_heightByLevels_7 (Nat.le_of_ble_eq_true rfl) rfl ?_
  refine z_new (pc := 9) x in_X12 tyX12 tyX12_ok q1821 q952 q148 (ci := 18) rfl (by decide) (by decide +kernel) dX1_heightByLevels_9 fun v9 => ?_
  refine z_dup (pc := 12) x dX1_heightByLevels_12 rfl ?_
  refine z_aload_n (pc := 13) x 1 dX1_heightByLevels_13 rfl rfl ?_
  refine z_get (pc := 14) (fun _ _ h => zAsR_eq h) x in_X1 (ci := 16) rfl (k := 0) (by decide) q320 (fun _ h => h) dX1_heightByLevels_14 fun v14 => ?_
  refine z_call (pc := 17) (z_canI (pc := 17) (ret := none) (As := [zP v14]) (st := [zP v9]) x (fun b => m_X12_init hl (some b) v14) q1822 rfl q992 q148 q993 n_X12_init ⟨by decide, by decide⟩ (Nat.le_of_ble_eq_true rfl) dX1_heightByLevels_17) (zv_V ?_) (fun q => zx_thr x (fun z hz => (htab z hz).elim) q)
  refine z_call (pc := 20) (z_canV (pc := 20) (As := []) (st := []) x (ci := 18) rfl (fun b => m_X12_byLevels hl (some b)) q1831 q1034 (x.2.2.2.2.1 _ q1035) q148 q1036 n_X12_byLevels ⟨by decide, by decide⟩ (Nat.le_of_ble_eq_true rfl) dX1_heightByLevels_20) (zv_R fun v20 => ?_) (fun q => zx_thr x (fun z hz => (htab z hz).elim) q)
  refine z_getN (pc := 23) (fun _ _ h => zAsR_eq h) x in_X12 (ci := 18) rfl (k := 1) (by decide) q1002 (fun _ h => h) dX1_heightByLevels_23 fun v23 => ?_
  refine z_iload_n (pc := 26) x 2 dX1_heightByLevels_26 rfl rfl ?_
  refine z_bipush (pc := 27) x (v := (97 : Int32)) dX1_heightByLevels_27 rfl ?_
  refine z_isub (pc := 29) x dX1_heightByLevels_29 ?_
  refine z_aald (pc := 30) x (t := 7) rfl rfl dX1_heightByLevels_30 fun v30 => ?_
  refine z_iload (pc := 31) x 0 dX1_heightByLevels_31 rfl ?_
  refine z_iald (pc := 33) x (t := 0) rfl dX1_heightByLevels_33 fun v33 => ?_
  exact z_iret (pc := 34) x hret dX1_heightByLevels_34
/-! X0_heightByLevels -/
def s_X0_heightByLevels_15 (E : zE) (b0 : Option Nat) : zM := zRet (some (.int (1 : Int32)))
theorem w_X0_heightByLevels_15 (x : zCx p l R s m args meth c E D tA cX0_heightByLevels 6 yX0_heightByLevels.cls 76) (hl : l.stackTraces = false) (hret : meth.sig.returnType = (Option.some Jvm.ClassFile.FieldType.int)) (hnm : meth.name = yX0_heightByLevels.name) (htab : c.exceptionTable.toList = tableOf [(0, 12, 15, 13), (0, 12, 19, 22)]) (b0 : Option Nat) : zW p l e R s m args below meth c E D tA 6 k0 (s_X0_heightByLevels_15 E b0) [] 15 [zP b0] := by
  unfold s_X0_heightByLevels_15
  refine z_astore (pc := 15) (lv' := [(5, zP b0)]) x dX0_heightByLevels_15 (Nat.le_of_ble_eq_true rfl) rfl ?_
  refine z_iconst (pc := 17) x (v := (1 : Int32)) dX0_heightByLevels_17 rfl ?_
  exact z_iret (pc := 18) x hret dX0_heightByLevels_18
def s_X0_heightByLevels_19 (E : zE) (b0 : Option Nat) : zM := zRet (some (.int (2 : Int32)))
theorem w_X0_heightByLevels_19 (x : zCx p l R s m args meth c E D tA cX0_heightByLevels 6 yX0_heightByLevels.cls 76) (hl : l.stackTraces = false) (hret : meth.sig.returnType = (Option.some Jvm.ClassFile.FieldType.int)) (hnm : meth.name = yX0_heightByLevels.name) (htab : c.exceptionTable.toList = tableOf [(0, 12, 15, 13), (0, 12, 19, 22)]) (b0 : Option Nat) : zW p l e R s m args below meth c E D tA 6 k0 (s_X0_heightByLevels_19 E b0) [] 19 [zP b0] := by
  unfold s_X0_heightByLevels_19
  refine z_astore (pc := 19) (lv' := [(5, zP b0)]) x dX0_heightByLevels_19 (Nat.le_of_ble_eq_true rfl) rfl ?_
  refine z_iconst (pc := 21) x (v := (2 : Int32)) dX0_heightByLevels_21 rfl ?_
  exact z_iret (pc := 22) x hret dX0_heightByLevels_22
def s_X0_heightByLevels (E : zE) (a0 : Option Nat) (a1 : Int32) (a2 : Int32) (a3 : Int32) (a4 : Option Nat) : zM := zC (zRv a0 [(16, fun b => s_X1_heightByLevels E (some b) a1 a2 a3)]) (fun q => zCat1 q [(0, s_X0_heightByLevels_15 E (some q)), (6, s_X0_heightByLevels_19 E (some q))]) (zKI (fun v7 => zSaL E 3 a4 (0 : Int32) ((v7).toInt64) (zRet (some (.int (0 : Int32))))))
theorem m_X0_heightByLevels {l : Launch} {E : zE} {D : va_G} {tA : Nat → ClassId} (hl : l.stackTraces = false) (a0 : Option Nat) (a1 : Int32) (a2 : Int32) (a3 : Int32) (a4 : Option Nat) : zMet l E D tA yX0_heightByLevels (wsW_ yX0_heightByLevels cX0_heightByLevels 6 (Option.some Jvm.ClassFile.FieldType.int) [(0, 12, 15, 13), (0, 12, 19, 22)]) 76 (s_X0_heightByLevels E a0 a1 a2 a3 a4) [zP a0, zI a1, zI a2, zI a3, zP a4] := by
  refine z_metW hl (by decide +kernel) (by rw [zSl_len]; exact (Nat.le_of_ble_eq_true rfl)) fun p e R s m args below meth c k0 x hret hnm htab => ?_
  refine z_lv [(0, zP a0), (1, zI a1), (2, zI a2), (3, zI a3), (4, zP a4)] rfl ?_
  unfold s_X0_heightByLevels
  refine z_aload (pc := 0) x 4 dX0_heightByLevels_0 rfl ?_
  refine z_iconst (pc := 2) x (v := (0 : Int32)) dX0_heightByLevels_2 rfl ?_
  refine z_aload_n (pc := 3) x 0 dX0_heightByLevels_3 rfl rfl ?_
  refine z_iload_n (pc := 4) x 1 dX0_heightByLevels_4 rfl rfl ?_
  refine z_iload_n (pc := 5) x 2 dX0_heightByLevels_5 rfl rfl ?_
  refine z_iload_n (pc := 6) x 3 dX0_heightByLevels_6 rfl rfl ?_
  refine z_call (pc := 7) (z_canV (pc := 7) (As := [zI a1, zI a2, zI a3]) (st := [zI (0 : Int32), zP a4]) x (ci := 16) rfl (fun b => m_X1_heightByLevels hl (some b) a1 a2 a3) q1827 q1828 (x.2.2.2.2.1 _ q1829) q108 q1830 n_X1_heightByLevels ⟨by decide, by decide⟩ (Nat.le_of_ble_eq_true rfl) dX0_heightByLevels_7) (zv_I fun v7 => ?_) (fun q => zx_cat x [(0, s_X0_heightByLevels_15 E (some q), ⟨0, 12, 15, 13⟩), (6, s_X0_heightByLevels_19 E (some q), ⟨0, 12, 19, 22⟩)] htab (List.forall_mem_cons.mpr ⟨⟨rfl, (show (13 : Nat) ≠ 0 by decide), q1462, z_sub [] rfl (w_X0_heightByLevels_15 x hl hret hnm htab (some q))⟩, (List.forall_mem_cons.mpr ⟨⟨rfl, (show (22 : Nat) ≠ 0 by decide), q1642, z_sub [] rfl (w_X0_heightByLevels_19 x hl hret hnm htab (some q))⟩, (fun _ hj => nomatch hj)⟩)⟩))
  refine z_i2l (pc := 10) x dX0_heightByLevels_10 ?_
  refine z_last (pc := 11) x (t := 3) rfl dX0_heightByLevels_11 ?_
  refine z_goto (pc := 12) (tgt := 23) x dX0_heightByLevels_12 rfl ?_
  refine z_iconst (pc := 23) x (v := (0 : Int32)) dX0_heightByLevels_23 rfl ?_
  exact z_iret (pc := 24) x hret dX0_heightByLevels_24
/-! X2_isDerived -/
def s_X2_isDerived (E : zE) (a0 : Option Nat) (a1 : Int32) (a2 : Int32) : zM := zC (zRv a0 [(26, fun b => s_X2_facts E (some b))]) zThr (zKR (fun v1 => zC (zRv v1 [(32, fun b => s_X4_has E (some b) a1 a2)]) zThr (zKI (fun v6 => if v6 = 0 then (zRetN .boolean (0 : Int32)) else (zGetR a0 26 0 (fun v13 => zC (zRv v13 [(32, fun b => s_X4_has E (some b) a1 a2)]) zThr (zKI (fun v18 => if v18 = 0 then (zRetN .boolean (1 : Int32)) else (zRetN .boolean (0 : Int32))))))))))
theorem m_X2_isDerived {l : Launch} {E : zE} {D : va_G} {tA : Nat → ClassId} (hl : l.stackTraces = false) (a0 : Option Nat) (a1 : Int32) (a2 : Int32) : zMet l E D tA yX2_isDerived (ws_ yX2_isDerived cX2_isDerived 3 (Option.some Jvm.ClassFile.FieldType.boolean)) 73 (s_X2_isDerived E a0 a1 a2) [zP a0, zI a1, zI a2] := by
  refine z_met hl (by decide +kernel) (by rw [zSl_len]; exact (Nat.le_of_ble_eq_true rfl)) fun p e R s m args below meth c k0 x hret hnm htab => ?_
  refine z_lv [(0, zP a0), (1, zI a1), (2, zI a2)] rfl ?_
  unfold s_X2_isDerived
  refine z_aload_n (pc := 0) x 0 dX2_isDerived_0 rfl rfl ?_
  refine z_call (pc := 1) (z_canV (pc := 1) (As := []) (st := []) x (ci := 26) rfl (fun b => m_X2_facts hl (some b)) q984 q369 (x.2.2.2.2.1 _ q370) q109 q371 n_X2_facts ⟨by decide, by decide⟩ (Nat.le_of_ble_eq_true rfl) dX2_isDerived_1) (zv_R fun v1 => ?_) (fun q => zx_thr x (fun z hz => (htab z hz).elim) q)
  refine z_iload_n (pc := 4) x 1 dX2_isDerived_4 rfl rfl ?_
  refine z_iload_n (pc := 5) x 2 dX2_isDerived_5 rfl rfl ?_
  refine z_call (pc := 6) (z_canV (pc := 6) (As := [zI a1, zI a2]) (st := []) x (ci := 32) rfl (fun b => m_X4_has hl (some b) a1 a2) q1212 q814 (x.2.2.2.2.1 _ q815) q114 q816 n_X4_has ⟨by decide, by decide⟩ (Nat.le_of_ble_eq_true rfl) dX2_isDerived_6) (zv_I fun v6 => ?_) (fun q => zx_thr x (fun z hz => (htab z hz).elim) q)
  refine z_if_eq (pc := 9) (tgt := 28) x dX2_isDerived_9 rfl (fun _ => ?_) (fun _ => ?_)
  · refine z_iconst (pc := 28) x (v := (0 : Int32)) dX2_isDerived_28 rfl ?_
    exact z_zret (pc := 29) x hret dX2_isDerived_29
  · refine z_aload_n (pc := 12) x 0 dX2_isDerived_12 rfl rfl ?_
    refine z_get (pc := 13) (fun _ _ h => zAsR_eq h) x in_X2 (ci := 26) rfl (k := 0) (by decide) q248 (fun _ h => h) dX2_isDerived_13 fun v13 => ?_
    refine z_iload_n (pc := 16) x 1 dX2_isDerived_16 rfl rfl ?_
    refine z_iload_n (pc := 17) x 2 dX2_isDerived_17 rfl rfl ?_
    refine z_call (pc := 18) (z_canV (pc := 18) (As := [zI a1, zI a2]) (st := []) x (ci := 32) rfl (fun b => m_X4_has hl (some b) a1 a2) q1212 q814 (x.2.2.2.2.1 _ q815) q114 q816 n_X4_has ⟨by decide, by decide⟩ (Nat.le_of_ble_eq_true rfl) dX2_isDerived_18) (zv_I fun v18 => ?_) (fun q => zx_thr x (fun z hz => (htab z hz).elim) q)
    refine z_if_ne (pc := 21) (tgt := 28) x dX2_isDerived_21 rfl (fun _ => ?_) (fun _ => ?_)
    · refine z_iconst (pc := 24) x (v := (1 : Int32)) dX2_isDerived_24 rfl ?_
      refine z_goto (pc := 25) (tgt := 29) x dX2_isDerived_25 rfl ?_
      exact z_zret (pc := 29) x hret dX2_isDerived_29
    · refine z_iconst (pc := 28) x (v := (0 : Int32)) dX2_isDerived_28 rfl ?_
      exact z_zret (pc := 29) x hret dX2_isDerived_29
/-! X15_init -/
def s_X15_init (E : zE) (a0 : Option Nat) (a1 : Option Nat) (a2 : Int32) (a3 : Int32) : zM := zSet E a0 21 4 (zVal (zP a1)) (zC (zSp a0 (fun b => s_X10_init E (some b))) zThr (zKV (zNewA 0 zAr0 (3 : Int32) (fun v11 => zSet E a0 21 2 (zVal (zP v11)) (zSet E a0 21 0 (zVal (zI a2)) (zSet E a0 21 1 (zVal (zI a3)) (zRet none)))))))
theorem m_X15_init {l : Launch} {E : zE} {D : va_G} {tA : Nat → ClassId} (hl : l.stackTraces = false) (a0 : Option Nat) (a1 : Option Nat) (a2 : Int32) (a3 : Int32) : zMet l E D tA yX15_init (ws_ yX15_init cX15_init 4 (Option.none : Option Jvm.ClassFile.FieldType)) 10 (s_X15_init E a0 a1 a2 a3) [zP a0, zP a1, zI a2, zI a3] := by
  refine z_met hl (by decide +kernel) (by rw [zSl_len]; exact (Nat.le_of_ble_eq_true rfl)) fun p e R s m args below meth c k0 x hret hnm htab => ?_
  refine z_lv [(0, zP a0), (1, zP a1), (2, zI a2), (3, zI a3)] rfl ?_
  unfold s_X15_init
  refine z_aload_n (pc := 0) x 0 dX15_init_0 rfl rfl ?_
  refine z_aload_n (pc := 1) x 1 dX15_init_1 rfl rfl ?_
  refine z_setF (pc := 2) (v := zP a1) x in_X15 tyX15 tyX15_ok nmX15 (ci := 21) rfl (k := 4) (by decide) q1863 (fun _ h => h) rfl hnm rfl (zfitR rfl _).1 (zfitR rfl _).2 dX15_init_2 ?_
  refine z_aload_n (pc := 5) x 0 dX15_init_5 rfl rfl ?_
  refine z_call (pc := 6) (z_canIN (pc := 6) (ret := none) (As := []) (st := []) x (fun b => m_X10_init hl (some b)) q1856 rfl q907 q146 q908 n_X10_init ⟨by decide, by decide⟩ (Nat.le_of_ble_eq_true rfl) dX15_init_6) (zv_V ?_) (fun q => zx_thr x (fun z hz => (htab z hz).elim) q)
  refine z_aload_n (pc := 9) x 0 dX15_init_9 rfl rfl ?_
  refine z_iconst (pc := 10) x (v := (3 : Int32)) dX15_init_10 rfl ?_
  refine z_newA (pc := 11) x (ty := .int) rfl (by decide) rfl q240 (fun _ _ => rfl) dX15_init_11 fun v11 => ?_
  refine z_setF (pc := 13) (v := zP v11) x in_X15 tyX15 tyX15_ok nmX15 (ci := 21) rfl (k := 2) (by decide) q1859 (fun _ h => h) rfl hnm rfl (zfitR rfl _).1 (zfitR rfl _).2 dX15_init_13 ?_
  refine z_aload_n (pc := 16) x 0 dX15_init_16 rfl rfl ?_
  refine z_iload_n (pc := 17) x 2 dX15_init_17 rfl rfl ?_
  refine z_setF (pc := 18) (v := zI a2) x in_X15 tyX15 tyX15_ok nmX15 (ci := 21) rfl (k := 0) (by decide) q1857 (fun _ h => h) rfl hnm rfl rfl rfl dX15_init_18 ?_
  refine z_aload_n (pc := 21) x 0 dX15_init_21 rfl rfl ?_
  refine z_iload_n (pc := 22) x 3 dX15_init_22 rfl rfl ?_
  refine z_setF (pc := 23) (v := zI a3) x in_X15 tyX15 tyX15_ok nmX15 (ci := 21) rfl (k := 1) (by decide) q1858 (fun _ h => h) rfl hnm rfl rfl rfl dX15_init_23 ?_
  exact z_vret (pc := 26) x hret dX15_init_26
/-! X16_init -/
def s_X16_init (E : zE) (a0 : Option Nat) (a1 : Int32) (a2 : Option Nat) (a3 : Option Nat) : zM := zSp a0 (fun _ => zSet E a0 22 0 (zVal (zI a1)) (zSet E a0 22 1 (zVal (zP a2)) (zSet E a0 22 2 (zVal (zP a3)) (zRet none))))
theorem m_X16_init {l : Launch} {E : zE} {D : va_G} {tA : Nat → ClassId} (hl : l.stackTraces = false) (a0 : Option Nat) (a1 : Int32) (a2 : Option Nat) (a3 : Option Nat) : zMet l E D tA yX16_init (ws_ yX16_init cX16_init 4 (Option.none : Option Jvm.ClassFile.FieldType)) 9 (s_X16_init E a0 a1 a2 a3) [zP a0, zI a1, zP a2, zP a3] := by
  refine z_met hl (by decide +kernel) (by rw [zSl_len]; exact (Nat.le_of_ble_eq_true rfl)) fun p e R s m args below meth c k0 x hret hnm htab => ?_
  refine z_lv [(0, zP a0), (1, zI a1), (2, zP a2), (3, zP a3)] rfl ?_
  unfold s_X16_init
  refine z_aload_n (pc := 0) x 0 dX16_init_0 rfl rfl ?_
  refine z_objInit (pc := 1) x q1883 q173 q174 (by omega) (zSum (k := 0) rfl (by omega)) dX16_init_1 ?_
  refine z_aload_n (pc := 4) x 0 dX16_init_4 rfl rfl ?_
  refine z_iload_n (pc := 5) x 1 dX16_init_5 rfl rfl ?_
  refine z_setF (pc := 6) (v := zI a1) x in_X16 tyX16 tyX16_ok nmX16 (ci := 22) rfl (k := 0) (by decide) q1884 (fun _ h => h) rfl hnm rfl rfl rfl dX16_init_6 ?_
  refine z_aload_n (pc := 9) x 0 dX16_init_9 rfl rfl ?_
  refine z_aload_n (pc := 10) x 2 dX16_init_10 rfl rfl ?_
  refine z_setF (pc := 11) (v := zP a2) x in_X16 tyX16 tyX16_ok nmX16 (ci := 22) rfl (k := 1) (by decide) q1886 (fun _ h => h) rfl hnm rfl (zfitR rfl _).1 (zfitR rfl _).2 dX16_init_11 ?_
  refine z_aload_n (pc := 14) x 0 dX16_init_14 rfl rfl ?_
  refine z_aload_n (pc := 15) x 3 dX16_init_15 rfl rfl ?_
  refine z_setF (pc := 16) (v := zP a3) x in_X16 tyX16 tyX16_ok nmX16 (ci := 22) rfl (k := 2) (by decide) q1888 (fun _ h => h) rfl hnm rfl (zfitR rfl _).1 (zfitR rfl _).2 dX16_init_16 ?_
  exact z_vret (pc := 19) x hret dX16_init_19
/-! X12_step -/
def s_X12_step_145 (E : zE) (k5 : Option Nat → Int32 → Int32 → Option Nat → Int32 → zM) (a0 : Option Nat) (a1 : Int32) (a2 : Int32) (a3 : Option Nat) (a4 : Int32) : zM := k5 a0 a1 a2 a3 (a4 + (1 : Int32))
theorem w_X12_step_145 (x : zCx p l R s m args meth c E D tA cX12_step 6 yX12_step.cls 73) (hl : l.stackTraces = false) (hret : meth.sig.returnType = (Option.some (Jvm.ClassFile.FieldType.object "BrambleLogic$Step"))) (hnm : meth.name = yX12_step.name) (htab : ∀ z ∈ c.exceptionTable.toList, False) {k5 : Option Nat → Int32 → Int32 → Option Nat → Int32 → zM} (h5 : ∀ (a0 : Option Nat) (a1 : Int32) (a2 : Int32) (a3 : Option Nat) (a4 : Int32) , zW p l e R s m args below meth c E D tA 6 k0 (k5 a0 a1 a2 a3 a4) [(0, zP a0), (1, zI a1), (2, zI a2), (3, zP a3), (4, zI a4)] 5 []) (a0 : Option Nat) (a1 : Int32) (a2 : Int32) (a3 : Option Nat) (a4 : Int32) : zW p l e R s m args below meth c E D tA 6 k0 (s_X12_step_145 E k5 a0 a1 a2 a3 a4) [(0, zP a0), (1, zI a1), (2, zI a2), (3, zP a3), (4, zI a4)] 145 [] := by
  unfold s_X12_step_145
  refine z_iinc (pc := 145) (lv' := [(4, zI (a4 + (1 : Int32))), (0, zP a0), (1, zI a1), (2, zI a2), (3, zP a3)]) x (v2 := (a4 + (1 : Int32))) 4 dX12_step_145 rfl rfl (Nat.le_of_ble_eq_true rfl) rfl ?_
  refine z_goto (pc := 148) (tgt := 5) x dX12_step_148 rfl ?_
  exact z_sub [1, 2, 3, 4, 0] rfl (h5 a0 a1 a2 a3 (a4 + (1 : Int32)))
def s_X12_step_144 (E : zE) (k5 : Option Nat → Int32 → Int32 → Option Nat → Int32 → zM) (a0 : Option Nat) (a1 : Int32) (a2 : Int32) (a4 : Int32) (b0 : Option Nat) : zM := s_X12_step_145 E k5 a0 a1 a2 b0 a4
theorem w_X12_step_144 (x : zCx p l R s m args meth c E D tA cX12_step 6 yX12_step.cls 73) (hl : l.stackTraces = false) (hret : meth.sig.returnType = (Option.some (Jvm.ClassFile.FieldType.object "BrambleLogic$Step"))) (hnm : meth.name = yX12_step.name) (htab : ∀ z ∈ c.exceptionTable.toList, False) {k5 : Option Nat → Int32 → Int32 → Option Nat → Int32 → zM} (h5 : ∀ (a0 : Option Nat) (a1 : Int32) (a2 : Int32) (a3 : Option Nat) (a4 : Int32) , zW p l e R s m args below meth c E D tA 6 k0 (k5 a0 a1 a2 a3 a4) [(0, zP a0), (1, zI a1), (2, zI a2), (3, zP a3), (4, zI a4)] 5 []) (a0 : Option Nat) (a1 : Int32) (a2 : Int32) (a4 : Int32) (b0 : Option Nat) : zW p l e R s m args below meth c E D tA 6 k0 (s_X12_step_144 E k5 a0 a1 a2 a4 b0) [(0, zP a0), (1, zI a1), (2, zI a2), (4, zI a4)] 144 [zP b0] := by
  unfold s_X12_step_144
  refine z_astore_n (pc := 144) (lv' := [(3, zP b0), (0, zP a0), (1, zI a1), (2, zI a2), (4, zI a4)]) x dX12_step_144 rfl (Nat.le_of_ble_eq_true rfl) rfl ?_
  exact z_sub [1, 2, 3, 0, 4] rfl (w_X12_step_145 x hl hret hnm htab h5 a0 a1 a2 b0 a4)
def s_X12_step_5 (E : zE) : Nat → Option Nat → Int32 → Int32 → Option Nat → Int32 → zM
  | 0, _, _, _, _, _ => zFail
  | n + 1, a0, a1, a2, a3, a4 => zGetR a0 18 0 (fun v8 => zGetR v8 26 1 (fun v11 => zC (zRv v11 [(10, fun b => s_J2_size E (some b))]) zThr (zKI (fun v14 => if v14 ≤ a4 then (zRet (some (va_rf a3))) else (if a3 = none then (zGetR a0 18 0 (fun v27 => zGetR v27 26 1 (fun v30 => zC (zRv v30 [(10, fun b => s_J2_get E (some b) a4)]) zThr (zKR (fun v35 => zCsS 31 v35 (zGetR v35 31 0 (fun v43 => zGetI v43 37 0 (fun v46 => if v46 = a1 then (zNew 21 5 [.int 0, .int 0, .null, .int 0, .null] (fun v53 => zGetR a0 18 1 (fun v59 => zGaR 7 v59 a1 (fun v63 => zGaI 0 v63 a2 (fun v65 => zC (zSp v53 (fun b => s_X15_init E (some b) a0 v65 a2)) zThr (zKV (zGetR a0 18 0 (fun v75 => zGetR v75 26 1 (fun v78 => zC (zRv v78 [(10, fun b => s_J2_get E (some b) a4)]) zThr (zKR (fun v83 => zCsS 31 v83 (zGetR a0 18 0 (fun v92 => zC (zRv v92 [(26, fun b => s_X2_facts E (some b))]) zThr (zKR (fun v95 => zC (zRv v53 [(21, fun b => s_X10_take E (some b) v83 v95)]) zThr (zKV (zGetI v53 21 3 (fun v103 => if v103 = 0 then (s_X12_step_144 E (s_X12_step_5 E n) a0 a1 a2 a4 none) else (zNew 22 3 [.int 0, .null, .null] (fun v109 => zGetR a0 18 0 (fun v116 => zGetR v116 26 1 (fun v119 => zC (zRv v119 [(10, fun b => s_J2_get E (some b) a4)]) zThr (zKR (fun v124 => zCsS 31 v124 (zGetR v53 21 2 (fun v134 => zC (zSp v109 (fun b => s_X16_init E (some b) a4 v124 v134)) zThr (zKV (s_X12_step_144 E (s_X12_step_5 E n) a0 a1 a2 a4 v109)))))))))))))))))))))))))))) else (s_X12_step_145 E (s_X12_step_5 E n) a0 a1 a2 a3 a4))))))))) else (zRet (some (va_rf a3))))))))
theorem w_X12_step_5 (x : zCx p l R s m args meth c E D tA cX12_step 6 yX12_step.cls 73) (hl : l.stackTraces = false) (hret : meth.sig.returnType = (Option.some (Jvm.ClassFile.FieldType.object "BrambleLogic$Step"))) (hnm : meth.name = yX12_step.name) (htab : ∀ z ∈ c.exceptionTable.toList, False) : ∀ (n : Nat) (a0 : Option Nat) (a1 : Int32) (a2 : Int32) (a3 : Option Nat) (a4 : Int32), zW p l e R s m args below meth c E D tA 6 k0 (s_X12_step_5 E n a0 a1 a2 a3 a4) [(0, zP a0), (1, zI a1), (2, zI a2), (3, zP a3), (4, zI a4)] 5 [] := by
  intro n
  induction n with
  | zero => intro a0 a1 a2 a3 a4; exact z_fail
  | succ n h5 =>
    intro a0 a1 a2 a3 a4
    rw [s_X12_step_5]
    refine z_iload (pc := 5) x 4 dX12_step_5 rfl ?_
    refine z_aload_n (pc := 7) x 0 dX12_step_7 rfl rfl ?_
    refine z_get (pc := 8) (fun _ _ h => zAsR_eq h) x in_X12 (ci := 18) rfl (k := 0) (by decide) q998 (fun _ h => h) dX12_step_8 fun v8 => ?_
    refine z_getN (pc := 11) (fun _ _ h => zAsR_eq h) x in_X2 (ci := 26) rfl (k := 1) (by decide) q253 (fun _ h => h) dX12_step_11 fun v11 => ?_
    refine z_call (pc := 14) (z_canIF (pc := 14) (As := []) (st := [zI a4]) (x9 := ⟨"java/util/List", "size", "()I"⟩) x (ci := 10) rfl (fun b => m_J2_size hl (some b)) q1848 q767 q766 (by decide) q768 q770 q771 q769 q384 q112 q772 nx_java_util_List_size___I ⟨by decide, by decide⟩ (Nat.le_of_ble_eq_true rfl) dX12_step_14) (zv_I fun v14 => ?_) (fun q => zx_thr x (fun z hz => (htab z hz).elim) q)
    refine z_icmp_ge (pc := 19) (tgt := 151) x dX12_step_19 rfl (fun _ => ?_) (fun _ => ?_)
    · refine z_aload_n (pc := 151) x 3 dX12_step_151 rfl rfl ?_
      exact z_aret (pc := 152) x hret (Or.inl ⟨_, rfl⟩) dX12_step_152
    · refine z_aload_n (pc := 22) x 3 dX12_step_22 rfl rfl ?_
      refine z_ifnonnull (pc := 23) (tgt := 151) x dX12_step_23 rfl (fun _ => ?_) (fun _ => ?_)
      · refine z_aload_n (pc := 26) x 0 dX12_step_26 rfl rfl ?_
        refine z_get (pc := 27) (fun _ _ h => zAsR_eq h) x in_X12 (ci := 18) rfl (k := 0) (by decide) q998 (fun _ h => h) dX12_step_27 fun v27 => ?_
        refine z_getN (pc := 30) (fun _ _ h => zAsR_eq h) x in_X2 (ci := 26) rfl (k := 1) (by decide) q253 (fun _ h => h) dX12_step_30 fun v30 => ?_
        refine z_iload (pc := 33) x 4 dX12_step_33 rfl ?_
        refine z_call (pc := 35) (z_canIF (pc := 35) (As := [zI a4]) (st := []) (x9 := ⟨"java/util/List", "get", "(I)Ljava/lang/Object;"⟩) x (ci := 10) rfl (fun b => m_J2_get hl (some b) a4) q1850 q845 q844 (by decide) q846 q848 q849 q847 q384 q112 q850 nx_java_util_List_get__I_Ljava_lang_Object_ ⟨by decide, by decide⟩ (Nat.le_of_ble_eq_true rfl) dX12_step_35) (zv_R fun v35 => ?_) (fun q => zx_thr x (fun z hz => (htab z hz).elim) q)
        refine z_csS (pc := 40) x (ci := 31) rfl q1030 dX12_step_40 ?_
        refine z_getN (pc := 43) (fun _ _ h => zAsR_eq h) x in_X25 (ci := 31) rfl (k := 0) (by decide) q2501 (fun _ h => h) dX12_step_43 fun v43 => ?_
        refine z_getN (pc := 46) (fun _ _ h => zAsI_eq h) x in_X9 (ci := 37) rfl (k := 0) (by decide) q2365 (fun _ h => h) dX12_step_46 fun v46 => ?_
        refine z_iload_n (pc := 49) x 1 dX12_step_49 rfl rfl ?_
        refine z_icmp_ne (pc := 50) (tgt := 145) x dX12_step_50 rfl (fun _ => ?_) (fun _ => ?_)
        · refine z_new (pc := 53) x in_X15 tyX15 tyX15_ok q1851 q1852 q151 (ci := 21) rfl (by decide) (by decide +kernel) dX12_step_53 fun v53 => ?_
          refine z_dup (pc := 56) x dX12_step_56 rfl ?_
          refine z_aload_n (pc := 57) x 0 dX12_step_57 rfl rfl ?_
          refine z_aload_n (pc := 58) x 0 dX12_step_58 rfl rfl ?_
          refine z_get (pc := 59) (fun _ _ h => zAsR_eq h) x in_X12 (ci := 18) rfl (k := 1) (by decide) q999 (fun _ h => h) dX12_step_59 fun v59 => ?_
          refine z_iload_n (pc := 62) x 1 dX12_step_62 rfl rfl ?_
          refine z_aald (pc := 63) x (t := 7) rfl rfl dX12_step_63 fun v63 => ?_
          refine z_iload_n (pc := 64) x 2 dX12_step_64 rfl rfl ?_
          refine z_iald (pc := 65) x (t := 0) rfl dX12_step_65 fun v65 => ?_
          refine z_iload_n (pc := 66) x 2 dX12_step_66 rfl rfl ?_
          refine z_call (pc := 67) (z_canI (pc := 67) (ret := none) (As := [zP a0, zI v65, zI a2]) (st := [zP v53]) x (fun b => m_X15_init hl (some b) a0 v65 a2) q1853 rfl q1854 q151 q1855 n_X15_init ⟨by decide, by decide⟩ (Nat.le_of_ble_eq_true rfl) dX12_step_67) (zv_V ?_) (fun q => zx_thr x (fun z hz => (htab z hz).elim) q)
          refine z_astore (pc := 70) (lv' := [(5, zP v53), (0, zP a0), (1, zI a1), (2, zI a2), (3, zP a3), (4, zI a4)]) x dX12_step_70 (Nat.le_of_ble_eq_true rfl) rfl ?_
          refine z_aload (pc := 72) x 0 dX12_step_72 rfl ?_
          refine z_aload_n (pc := 74) x 1 dX12_step_74 rfl rfl ?_
          refine z_get (pc := 75) (fun _ _ h => zAsR_eq h) x in_X12 (ci := 18) rfl (k := 0) (by decide) q998 (fun _ h => h) dX12_step_75 fun v75 => ?_
          refine z_getN (pc := 78) (fun _ _ h => zAsR_eq h) x in_X2 (ci := 26) rfl (k := 1) (by decide) q253 (fun _ h => h) dX12_step_78 fun v78 => ?_
          refine z_iload (pc := 81) x 5 dX12_step_81 rfl ?_
          refine z_call (pc := 83) (z_canIF (pc := 83) (As := [zI a4]) (st := [zP v53]) (x9 := ⟨"java/util/List", "get", "(I)Ljava/lang/Object;"⟩) x (ci := 10) rfl (fun b => m_J2_get hl (some b) a4) q1850 q845 q844 (by decide) q846 q848 q849 q847 q384 q112 q850 nx_java_util_List_get__I_Ljava_lang_Object_ ⟨by decide, by decide⟩ (Nat.le_of_ble_eq_true rfl) dX12_step_83) (zv_R fun v83 => ?_) (fun q => zx_thr x (fun z hz => (htab z hz).elim) q)
          refine z_csS (pc := 88) x (ci := 31) rfl q1030 dX12_step_88 ?_
          refine z_aload_n (pc := 91) x 1 dX12_step_91 rfl rfl ?_
          refine z_get (pc := 92) (fun _ _ h => zAsR_eq h) x in_X12 (ci := 18) rfl (k := 0) (by decide) q998 (fun _ h => h) dX12_step_92 fun v92 => ?_
          refine z_call (pc := 95) (z_canV (pc := 95) (As := []) (st := [zP v83, zP v53]) x (ci := 26) rfl (fun b => m_X2_facts hl (some b)) q1031 q369 (x.2.2.2.2.1 _ q370) q109 q371 n_X2_facts ⟨by decide, by decide⟩ (Nat.le_of_ble_eq_true rfl) dX12_step_95) (zv_R fun v95 => ?_) (fun q => zx_thr x (fun z hz => (htab z hz).elim) q)
          refine z_call (pc := 98) (z_canVU (pc := 98) (As := [zP v83, zP v95]) (st := []) (x9 := ⟨"BrambleLogic$Heights$First", "take", "(LBrambleLogic$Rule;LBrambleLogic$Facts;)V"⟩) (owner := "BrambleLogic$Steps") x (ci := 21) rfl (fun b => m_X10_take hl (some b) v83 v95) q1875 q1876 (zDecl_ab x q933) (by decide) q935 q1877 q146 q936 nx_BrambleLogic_Heights_First_take__LBrambleLogic_Rule_LBrambleLogic_Facts__V ⟨by decide, by decide⟩ (Nat.le_of_ble_eq_true rfl) dX12_step_98) (zv_V ?_) (fun q => zx_thr x (fun z hz => (htab z hz).elim) q)
          refine z_aload (pc := 101) x 0 dX12_step_101 rfl ?_
          refine z_getN (pc := 103) (fun _ _ h => zAsI_eq h) x in_X15 (ci := 21) rfl (k := 3) (by decide) q1862 (fun _ h => h) dX12_step_103 fun v103 => ?_
          refine z_if_eq (pc := 106) (tgt := 143) x dX12_step_106 rfl (fun _ => ?_) (fun _ => ?_)
          · refine z_null (pc := 143) x dX12_step_143 ?_
            exact z_sub [1, 2, 3, 5] rfl (w_X12_step_144 x hl hret hnm htab h5 a0 a1 a2 a4 none)
          · refine z_new (pc := 109) x in_X16 tyX16 tyX16_ok q1878 q1879 q152 (ci := 22) rfl (by decide) (by decide +kernel) dX12_step_109 fun v109 => ?_
            refine z_dup (pc := 112) x dX12_step_112 rfl ?_
            refine z_iload (pc := 113) x 5 dX12_step_113 rfl ?_
            refine z_aload_n (pc := 115) x 1 dX12_step_115 rfl rfl ?_
            refine z_get (pc := 116) (fun _ _ h => zAsR_eq h) x in_X12 (ci := 18) rfl (k := 0) (by decide) q998 (fun _ h => h) dX12_step_116 fun v116 => ?_
            refine z_getN (pc := 119) (fun _ _ h => zAsR_eq h) x in_X2 (ci := 26) rfl (k := 1) (by decide) q253 (fun _ h => h) dX12_step_119 fun v119 => ?_
            refine z_iload (pc := 122) x 5 dX12_step_122 rfl ?_
            refine z_call (pc := 124) (z_canIF (pc := 124) (As := [zI a4]) (st := [zI a4, zP v109, zP v109]) (x9 := ⟨"java/util/List", "get", "(I)Ljava/lang/Object;"⟩) x (ci := 10) rfl (fun b => m_J2_get hl (some b) a4) q1850 q845 q844 (by decide) q846 q848 q849 q847 q384 q112 q850 nx_java_util_List_get__I_Ljava_lang_Object_ ⟨by decide, by decide⟩ (Nat.le_of_ble_eq_true rfl) dX12_step_124) (zv_R fun v124 => ?_) (fun q => zx_thr x (fun z hz => (htab z hz).elim) q)
            refine z_csS (pc := 129) x (ci := 31) rfl q1030 dX12_step_129 ?_
            refine z_aload (pc := 132) x 0 dX12_step_132 rfl ?_
            refine z_getN (pc := 134) (fun _ _ h => zAsR_eq h) x in_X15 (ci := 21) rfl (k := 2) (by decide) q1860 (fun _ h => h) dX12_step_134 fun v134 => ?_
            refine z_call (pc := 137) (z_canI (pc := 137) (ret := none) (As := [zI a4, zP v124, zP v134]) (st := [zP v109]) x (fun b => m_X16_init hl (some b) a4 v124 v134) q1880 rfl q1881 q152 q1882 n_X16_init ⟨by decide, by decide⟩ (Nat.le_of_ble_eq_true rfl) dX12_step_137) (zv_V ?_) (fun q => zx_thr x (fun z hz => (htab z hz).elim) q)
            refine z_goto (pc := 140) (tgt := 144) x dX12_step_140 rfl ?_
            exact z_sub [1, 2, 3, 5] rfl (w_X12_step_144 x hl hret hnm htab h5 a0 a1 a2 a4 v109)
        · exact z_sub [0, 1, 2, 3, 4] rfl (w_X12_step_145 x hl hret hnm htab h5 a0 a1 a2 a3 a4)
      · refine z_aload_n (pc := 151) x 3 dX12_step_151 rfl rfl ?_
        exact z_aret (pc := 152) x hret (Or.inl ⟨_, rfl⟩) dX12_step_152
def s_X12_step (E : zE) (a0 : Option Nat) (a1 : Int32) (a2 : Int32) : zM := s_X12_step_5 E zN a0 a1 a2 none (0 : Int32)
theorem m_X12_step {l : Launch} {E : zE} {D : va_G} {tA : Nat → ClassId} (hl : l.stackTraces = false) (a0 : Option Nat) (a1 : Int32) (a2 : Int32) : zMet l E D tA yX12_step (ws_ yX12_step cX12_step 6 (Option.some (Jvm.ClassFile.FieldType.object "BrambleLogic$Step"))) 73 (s_X12_step E a0 a1 a2) [zP a0, zI a1, zI a2] := by
  refine z_met hl (by decide +kernel) (by rw [zSl_len]; exact (Nat.le_of_ble_eq_true rfl)) fun p e R s m args below meth c k0 x hret hnm htab => ?_
  refine z_lv [(0, zP a0), (1, zI a1), (2, zI a2)] rfl ?_
  unfold s_X12_step
  refine z_null (pc := 0) x dX12_step_0 ?_
  refine z_astore_n (pc := 1) (lv' := [(3, zP none), (0, zP a0), (1, zI a1), (2, zI a2)]) x dX12_step_1 rfl (Nat.le_of_ble_eq_true rfl) rfl ?_
  refine z_iconst (pc := 2) x (v := (0 : Int32)) dX12_step_2 rfl ?_
  refine z_istore (pc := 3) (lv' := [(4, zI (0 : Int32)), (3, zP none), (0, zP a0), (1, zI a1), (2, zI a2)]) x dX12_step_3 (Nat.le_of_ble_eq_true rfl) rfl ?_
  exact z_sub [2, 3, 4, 1, 0] rfl (w_X12_step_5 x hl hret hnm htab zN a0 a1 a2 none (0 : Int32))
/-! X1_ruleOf -/
def s_X1_ruleOf (E : zE) (a0 : Option Nat) (a1 : Int32) (a2 : Int32) (a3 : Int32) : zM := zC (s_X1_requireCode E a1 a2 a3) zThr (zKI (fun v3 => zGetR a0 16 0 (fun v9 => zC (zRv v9 [(26, fun b => s_X2_isDerived E (some b) (a1 - (97 : Int32)) v3)]) zThr (zKI (fun v18 => zC (s_X1_requireElement E v18) zThr (zKV (zNew 18 2 [.null, .null] (fun v24 => zGetR a0 16 0 (fun v29 => zC (zSp v24 (fun b => s_X12_init E (some b) v29)) zThr (zKV (zC (zRv v24 [(18, fun b => s_X12_inRounds E (some b))]) zThr (zKR (fun v35 => zC (zRv v35 [(18, fun b => s_X12_step E (some b) (a1 - (97 : Int32)) v3)]) zThr (zKR (fun v44 => zGetI v44 22 0 (fun v47 => zRet (some (.int v47))))))))))))))))))
theorem m_X1_ruleOf {l : Launch} {E : zE} {D : va_G} {tA : Nat → ClassId} (hl : l.stackTraces = false) (a0 : Option Nat) (a1 : Int32) (a2 : Int32) (a3 : Int32) : zMet l E D tA yX1_ruleOf (ws_ yX1_ruleOf cX1_ruleOf 5 (Option.some Jvm.ClassFile.FieldType.int)) 75 (s_X1_ruleOf E a0 a1 a2 a3) [zP a0, zI a1, zI a2, zI a3] := by
  refine z_met hl (by decide +kernel) (by rw [zSl_len]; exact (Nat.le_of_ble_eq_true rfl)) fun p e R s m args below meth c k0 x hret hnm htab => ?_
  refine z_lv [(0, zP a0), (1, zI a1), (2, zI a2), (3, zI a3)] rfl ?_
  unfold s_X1_ruleOf
  refine z_iload_n (pc := 0) x 1 dX1_ruleOf_0 rfl rfl ?_
  refine z_iload_n (pc := 1) x 2 dX1_ruleOf_1 rfl rfl ?_
  refine z_iload_n (pc := 2) x 3 dX1_ruleOf_2 rfl rfl ?_
  refine z_call (pc := 3) (z_canS (pc := 3) (As := [zI a1, zI a2, zI a3]) (st := []) x (m_X1_requireCode hl a1 a2 a3) q1740 q1517 q108 q1518 n_X1_requireCode ⟨by decide, by decide⟩ (Nat.le_of_ble_eq_true rfl) dX1_ruleOf_3) (zv_I fun v3 => ?_) (fun q => zx_thr x (fun z hz => (htab z hz).elim) q)
  refine z_istore (pc := 6) (lv' := [(4, zI v3), (0, zP a0), (1, zI a1), (2, zI a2), (3, zI a3)]) x dX1_ruleOf_6 (Nat.le_of_ble_eq_true rfl) rfl ?_
  refine z_aload_n (pc := 8) x 1 dX1_ruleOf_8 rfl rfl ?_
  refine z_get (pc := 9) (fun _ _ h => zAsR_eq h) x in_X1 (ci := 16) rfl (k := 0) (by decide) q320 (fun _ h => h) dX1_ruleOf_9 fun v9 => ?_
  refine z_iload_n (pc := 12) x 2 dX1_ruleOf_12 rfl rfl ?_
  refine z_bipush (pc := 13) x (v := (97 : Int32)) dX1_ruleOf_13 rfl ?_
  refine z_isub (pc := 15) x dX1_ruleOf_15 ?_
  refine z_iload (pc := 16) x 0 dX1_ruleOf_16 rfl ?_
  refine z_call (pc := 18) (z_canV (pc := 18) (As := [zI (a1 - (97 : Int32)), zI v3]) (st := []) x (ci := 26) rfl (fun b => m_X2_isDerived hl (some b) (a1 - (97 : Int32)) v3) q1839 q1840 (x.2.2.2.2.1 _ q1841) q109 q1842 n_X2_isDerived ⟨by decide, by decide⟩ (Nat.le_of_ble_eq_true rfl) dX1_ruleOf_18) (zv_I fun v18 => ?_) (fun q => zx_thr x (fun z hz => (htab z hz).elim) q)
  refine z_call (pc := 21) (z_canS (pc := 21) (As := [zI v18]) (st := []) x (m_X1_requireElement hl v18) q1793 q1656 q108 q1657 n_X1_requireElement ⟨by decide, by decide⟩ (Nat.le_of_ble_eq_true rfl) dX1_ruleOf_21) (zv_V ?_) (fun q => zx_thr x (fun z hz => (htab z hz).elim) q)
  refine z_new (pc := 24) x in_X12 tyX12 tyX12_ok q1821 q952 q148 (ci := 18) rfl (by decide) (by decide +kernel) dX1_ruleOf_24 fun v24 => ?_
  refine z_dup (pc := 27) x dX1_ruleOf_27 rfl ?_
  refine z_aload_n (pc := 28) x 1 dX1_ruleOf_28 rfl rfl ?_
  refine z_get (pc := 29) (fun _ _ h => zAsR_eq h) x in_X1 (ci := 16) rfl (k := 0) (by decide) q320 (fun _ h => h) dX1_ruleOf_29 fun v29 => ?_
  refine z_call (pc := 32) (z_canI (pc := 32) (ret := none) (As := [zP v29]) (st := [zP v24]) x (fun b => m_X12_init hl (some b) v29) q1822 rfl q992 q148 q993 n_X12_init ⟨by decide, by decide⟩ (Nat.le_of_ble_eq_true rfl) dX1_ruleOf_32) (zv_V ?_) (fun q => zx_thr x (fun z hz => (htab z hz).elim) q)
  refine z_call (pc := 35) (z_canV (pc := 35) (As := []) (st := []) x (ci := 18) rfl (fun b => m_X12_inRounds hl (some b)) q1823 q1009 (x.2.2.2.2.1 _ q1010) q148 q1011 n_X12_inRounds ⟨by decide, by decide⟩ (Nat.le_of_ble_eq_true rfl) dX1_ruleOf_35) (zv_R fun v35 => ?_) (fun q => zx_thr x (fun z hz => (htab z hz).elim) q)
  refine z_iload_n (pc := 38) x 2 dX1_ruleOf_38 rfl rfl ?_
  refine z_bipush (pc := 39) x (v := (97 : Int32)) dX1_ruleOf_39 rfl ?_
  refine z_isub (pc := 41) x dX1_ruleOf_41 ?_
  refine z_iload (pc := 42) x 0 dX1_ruleOf_42 rfl ?_
  refine z_call (pc := 44) (z_canV (pc := 44) (As := [zI (a1 - (97 : Int32)), zI v3]) (st := []) x (ci := 18) rfl (fun b => m_X12_step hl (some b) (a1 - (97 : Int32)) v3) q1843 q1844 (x.2.2.2.2.1 _ q1845) q148 q1846 n_X12_step ⟨by decide, by decide⟩ (Nat.le_of_ble_eq_true rfl) dX1_ruleOf_44) (zv_R fun v44 => ?_) (fun q => zx_thr x (fun z hz => (htab z hz).elim) q)
  refine z_getN (pc := 47) (fun _ _ h => zAsI_eq h) x in_X16 (ci := 22) rfl (k := 0) (by decide) q1885 (fun _ h => h) dX1_ruleOf_47 fun v47 => ?_
  exact z_iret (pc := 50) x hret dX1_ruleOf_50
/-! X0_ruleOf -/
def s_X0_ruleOf_15 (E : zE) (b0 : Option Nat) : zM := zRet (some (.int (1 : Int32)))
theorem w_X0_ruleOf_15 (x : zCx p l R s m args meth c E D tA cX0_ruleOf 6 yX0_ruleOf.cls 76) (hl : l.stackTraces = false) (hret : meth.sig.returnType = (Option.some Jvm.ClassFile.FieldType.int)) (hnm : meth.name = yX0_ruleOf.name) (htab : c.exceptionTable.toList = tableOf [(0, 12, 15, 13), (0, 12, 19, 22)]) (b0 : Option Nat) : zW p l e R s m args below meth c E D tA 6 k0 (s_X0_ruleOf_15 E b0) [] 15 [zP b0] := by
  unfold s_X0_ruleOf_15
  refine z_astore (pc := 15) (lv' := [(5, zP b0)]) x dX0_ruleOf_15 (Nat.le_of_ble_eq_true rfl) rfl ?_
  refine z_iconst (pc := 17) x (v := (1 : Int32)) dX0_ruleOf_17 rfl ?_
  exact z_iret (pc := 18) x hret dX0_ruleOf_18
def s_X0_ruleOf_19 (E : zE) (b0 : Option Nat) : zM := zRet (some (.int (2 : Int32)))
theorem w_X0_ruleOf_19 (x : zCx p l R s m args meth c E D tA cX0_ruleOf 6 yX0_ruleOf.cls 76) (hl : l.stackTraces = false) (hret : meth.sig.returnType = (Option.some Jvm.ClassFile.FieldType.int)) (hnm : meth.name = yX0_ruleOf.name) (htab : c.exceptionTable.toList = tableOf [(0, 12, 15, 13), (0, 12, 19, 22)]) (b0 : Option Nat) : zW p l e R s m args below meth c E D tA 6 k0 (s_X0_ruleOf_19 E b0) [] 19 [zP b0] := by
  unfold s_X0_ruleOf_19
  refine z_astore (pc := 19) (lv' := [(5, zP b0)]) x dX0_ruleOf_19 (Nat.le_of_ble_eq_true rfl) rfl ?_
  refine z_iconst (pc := 21) x (v := (2 : Int32)) dX0_ruleOf_21 rfl ?_
  exact z_iret (pc := 22) x hret dX0_ruleOf_22
def s_X0_ruleOf (E : zE) (a0 : Option Nat) (a1 : Int32) (a2 : Int32) (a3 : Int32) (a4 : Option Nat) : zM := zC (zRv a0 [(16, fun b => s_X1_ruleOf E (some b) a1 a2 a3)]) (fun q => zCat1 q [(0, s_X0_ruleOf_15 E (some q)), (6, s_X0_ruleOf_19 E (some q))]) (zKI (fun v7 => zSaL E 3 a4 (0 : Int32) ((v7).toInt64) (zRet (some (.int (0 : Int32))))))
theorem m_X0_ruleOf {l : Launch} {E : zE} {D : va_G} {tA : Nat → ClassId} (hl : l.stackTraces = false) (a0 : Option Nat) (a1 : Int32) (a2 : Int32) (a3 : Int32) (a4 : Option Nat) : zMet l E D tA yX0_ruleOf (wsW_ yX0_ruleOf cX0_ruleOf 6 (Option.some Jvm.ClassFile.FieldType.int) [(0, 12, 15, 13), (0, 12, 19, 22)]) 76 (s_X0_ruleOf E a0 a1 a2 a3 a4) [zP a0, zI a1, zI a2, zI a3, zP a4] := by
  refine z_metW hl (by decide +kernel) (by rw [zSl_len]; exact (Nat.le_of_ble_eq_true rfl)) fun p e R s m args below meth c k0 x hret hnm htab => ?_
  refine z_lv [(0, zP a0), (1, zI a1), (2, zI a2), (3, zI a3), (4, zP a4)] rfl ?_
  unfold s_X0_ruleOf
  refine z_aload (pc := 0) x 4 dX0_ruleOf_0 rfl ?_
  refine z_iconst (pc := 2) x (v := (0 : Int32)) dX0_ruleOf_2 rfl ?_
  refine z_aload_n (pc := 3) x 0 dX0_ruleOf_3 rfl rfl ?_
  refine z_iload_n (pc := 4) x 1 dX0_ruleOf_4 rfl rfl ?_
  refine z_iload_n (pc := 5) x 2 dX0_ruleOf_5 rfl rfl ?_
  refine z_iload_n (pc := 6) x 3 dX0_ruleOf_6 rfl rfl ?_
  refine z_call (pc := 7) (z_canV (pc := 7) (As := [zI a1, zI a2, zI a3]) (st := [zI (0 : Int32), zP a4]) x (ci := 16) rfl (fun b => m_X1_ruleOf hl (some b) a1 a2 a3) q1835 q1836 (x.2.2.2.2.1 _ q1837) q108 q1838 n_X1_ruleOf ⟨by decide, by decide⟩ (Nat.le_of_ble_eq_true rfl) dX0_ruleOf_7) (zv_I fun v7 => ?_) (fun q => zx_cat x [(0, s_X0_ruleOf_15 E (some q), ⟨0, 12, 15, 13⟩), (6, s_X0_ruleOf_19 E (some q), ⟨0, 12, 19, 22⟩)] htab (List.forall_mem_cons.mpr ⟨⟨rfl, (show (13 : Nat) ≠ 0 by decide), q1462, z_sub [] rfl (w_X0_ruleOf_15 x hl hret hnm htab (some q))⟩, (List.forall_mem_cons.mpr ⟨⟨rfl, (show (22 : Nat) ≠ 0 by decide), q1642, z_sub [] rfl (w_X0_ruleOf_19 x hl hret hnm htab (some q))⟩, (fun _ hj => nomatch hj)⟩)⟩))
  refine z_i2l (pc := 10) x dX0_ruleOf_10 ?_
  refine z_last (pc := 11) x (t := 3) rfl dX0_ruleOf_11 ?_
  refine z_goto (pc := 12) (tgt := 23) x dX0_ruleOf_12 rfl ?_
  refine z_iconst (pc := 23) x (v := (0 : Int32)) dX0_ruleOf_23 rfl ?_
  exact z_iret (pc := 24) x hret dX0_ruleOf_24
/-! X12_size -/
def s_X12_size_110 (E : zE) (r_X12_size : Option Nat → Int32 → Int32 → Option Nat → zM) (a0 : Option Nat) (a1 : Int32) (a2 : Int32) (a3 : Option Nat) : zM := zGetR a0 18 1 (fun v111 => zGaR 7 v111 a1 (fun v115 => zGaI 0 v115 a2 (fun v117 => if v117 = 0 then (zRet (some (.long (1 : Int64)))) else (zGaR 9 a3 a1 (fun v127 => zGaL 3 v127 a2 (fun v129 => zRet (some (.long v129))))))))
theorem w_X12_size_110 {fr_X12_size : Nat} {r_X12_size : Option Nat → Int32 → Int32 → Option Nat → zM} (x : zCx p l R s m args meth c E D tA cX12_size 9 yX12_size.cls (fr_X12_size + 1)) (hl : l.stackTraces = false) (hret : meth.sig.returnType = (Option.some Jvm.ClassFile.FieldType.long)) (hnm : meth.name = yX12_size.name) (htab : ∀ z ∈ c.exceptionTable.toList, False) (hr_X12_size : ∀ (a0 : Option Nat) (a1 : Int32) (a2 : Int32) (a3 : Option Nat), zMet l E D tA yX12_size (ws_ yX12_size cX12_size 9 (Option.some Jvm.ClassFile.FieldType.long)) fr_X12_size (r_X12_size a0 a1 a2 a3) [zP a0, zI a1, zI a2, zP a3]) (hB_X12_size : 200 ≤ fr_X12_size) (a0 : Option Nat) (a1 : Int32) (a2 : Int32) (a3 : Option Nat) : zW p l e R s m args below meth c E D tA 9 k0 (s_X12_size_110 E r_X12_size a0 a1 a2 a3) [(0, zP a0), (1, zI a1), (2, zI a2), (3, zP a3)] 110 [] := by
  unfold s_X12_size_110
  refine z_aload_n (pc := 110) x 0 dX12_size_110 rfl rfl ?_
  refine z_get (pc := 111) (fun _ _ h => zAsR_eq h) x in_X12 (ci := 18) rfl (k := 1) (by decide) q999 (fun _ h => h) dX12_size_111 fun v111 => ?_
  refine z_iload_n (pc := 114) x 1 dX12_size_114 rfl rfl ?_
  refine z_aald (pc := 115) x (t := 7) rfl rfl dX12_size_115 fun v115 => ?_
  refine z_iload_n (pc := 116) x 2 dX12_size_116 rfl rfl ?_
  refine z_iald (pc := 117) x (t := 0) rfl dX12_size_117 fun v117 => ?_
  refine z_if_ne (pc := 118) (tgt := 125) x dX12_size_118 rfl (fun _ => ?_) (fun _ => ?_)
  · refine z_lconst (pc := 121) x (v := (1 : Int64)) dX12_size_121 rfl ?_
    refine z_goto (pc := 122) (tgt := 130) x dX12_size_122 rfl ?_
    exact z_lret (pc := 130) x hret dX12_size_130
  · refine z_aload_n (pc := 125) x 3 dX12_size_125 rfl rfl ?_
    refine z_iload_n (pc := 126) x 1 dX12_size_126 rfl rfl ?_
    refine z_aald (pc := 127) x (t := 9) rfl rfl dX12_size_127 fun v127 => ?_
    refine z_iload_n (pc := 128) x 2 dX12_size_128 rfl rfl ?_
    refine z_lald (pc := 129) x (t := 3) rfl dX12_size_129 fun v129 => ?_
    exact z_lret (pc := 130) x hret dX12_size_130
def s_X12_size_47 (E : zE) (r_X12_size : Option Nat → Int32 → Int32 → Option Nat → zM) : Nat → Option Nat → Int32 → Int32 → Option Nat → Option Nat → Int64 → Option Nat → zM
  | 0, _, _, _, _, _, _, _ => zFail
  | n + 1, a0, a1, a2, a3, a4, a5, a7 => zC (zRv a7 [(11, fun b => s_J22_hasNext E (some b))]) zThr (zKI (fun v49 => if v49 = 0 then (zGaR 9 a3 a1 (fun v105 => zSaL E 3 v105 a2 a5 (s_X12_size_110 E r_X12_size a0 a1 a2 a3))) else (zC (zRv a7 [(11, fun b => s_J22_next E (some b))]) zThr (zKR (fun v59 => zCsS 37 v59 (zGetI v59 37 0 (fun v77 => zGetR a4 22 2 (fun v84 => zC (zRv v59 [(37, fun b => s_X9_code E (some b) v84)]) zThr (zKI (fun v87 => zC (zRv a0 [(18, fun b => r_X12_size (some b) v77 v87 a3)]) zThr (zKL (fun v91 => (s_X12_size_47 E r_X12_size n) a0 a1 a2 a3 a4 (if (a5 + v91) < (1000000000 : Int64) then (a5 + v91) else (1000000000 : Int64)) a7))))))))))))
theorem w_X12_size_47 {fr_X12_size : Nat} {r_X12_size : Option Nat → Int32 → Int32 → Option Nat → zM} (x : zCx p l R s m args meth c E D tA cX12_size 9 yX12_size.cls (fr_X12_size + 1)) (hl : l.stackTraces = false) (hret : meth.sig.returnType = (Option.some Jvm.ClassFile.FieldType.long)) (hnm : meth.name = yX12_size.name) (htab : ∀ z ∈ c.exceptionTable.toList, False) (hr_X12_size : ∀ (a0 : Option Nat) (a1 : Int32) (a2 : Int32) (a3 : Option Nat), zMet l E D tA yX12_size (ws_ yX12_size cX12_size 9 (Option.some Jvm.ClassFile.FieldType.long)) fr_X12_size (r_X12_size a0 a1 a2 a3) [zP a0, zI a1, zI a2, zP a3]) (hB_X12_size : 200 ≤ fr_X12_size) : ∀ (n : Nat) (a0 : Option Nat) (a1 : Int32) (a2 : Int32) (a3 : Option Nat) (a4 : Option Nat) (a5 : Int64) (a7 : Option Nat), zW p l e R s m args below meth c E D tA 9 k0 (s_X12_size_47 E r_X12_size n a0 a1 a2 a3 a4 a5 a7) [(0, zP a0), (1, zI a1), (2, zI a2), (3, zP a3), (4, zP a4), (5, zL a5), (7, zP a7)] 47 [] := by
  intro n
  induction n with
  | zero => intro a0 a1 a2 a3 a4 a5 a7; exact z_fail
  | succ n h47 =>
    intro a0 a1 a2 a3 a4 a5 a7
    rw [s_X12_size_47]
    refine z_aload (pc := 47) x 6 dX12_size_47 rfl ?_
    refine z_call (pc := 49) (z_canIF (pc := 49) (As := []) (st := []) (x9 := ⟨"java/util/Iterator", "hasNext", "()Z"⟩) x (ci := 11) rfl (fun b => m_J22_hasNext hl (some b)) q957 q413 q412 (by decide) q415 q417 q418 q416 q414 q139 q419 nx_java_util_Iterator_hasNext___Z ⟨by omega, by omega⟩ (Nat.le_of_ble_eq_true rfl) dX12_size_49) (zv_I fun v49 => ?_) (fun q => zx_thr x (fun z hz => (htab z hz).elim) q)
    refine z_if_eq (pc := 54) (tgt := 103) x dX12_size_54 rfl (fun _ => ?_) (fun _ => ?_)
    · refine z_aload_n (pc := 103) x 3 dX12_size_103 rfl rfl ?_
      refine z_iload_n (pc := 104) x 1 dX12_size_104 rfl rfl ?_
      refine z_aald (pc := 105) x (t := 9) rfl rfl dX12_size_105 fun v105 => ?_
      refine z_iload_n (pc := 106) x 2 dX12_size_106 rfl rfl ?_
      refine z_lload (pc := 107) x 5 dX12_size_107 rfl ?_
      refine z_last (pc := 109) x (t := 3) rfl dX12_size_109 ?_
      exact z_sub [0, 1, 2, 3] rfl (w_X12_size_110 x hl hret hnm htab hr_X12_size hB_X12_size a0 a1 a2 a3)
    · refine z_aload (pc := 57) x 6 dX12_size_57 rfl ?_
      refine z_call (pc := 59) (z_canIF (pc := 59) (As := []) (st := []) (x9 := ⟨"java/util/Iterator", "next", "()Ljava/lang/Object;"⟩) x (ci := 11) rfl (fun b => m_J22_next hl (some b)) q959 q423 q422 (by decide) q424 q426 q427 q425 q414 q139 q428 nx_java_util_Iterator_next___Ljava_lang_Object_ ⟨by omega, by omega⟩ (Nat.le_of_ble_eq_true rfl) dX12_size_59) (zv_R fun v59 => ?_) (fun q => zx_thr x (fun z hz => (htab z hz).elim) q)
      refine z_csS (pc := 64) x (ci := 37) rfl q960 dX12_size_64 ?_
      refine z_astore (pc := 67) (lv' := [(8, zP v59), (0, zP a0), (1, zI a1), (2, zI a2), (3, zP a3), (4, zP a4), (5, zL a5), (7, zP a7)]) x dX12_size_67 (Nat.le_of_ble_eq_true rfl) rfl ?_
      refine z_ldc2 (pc := 69) x (v := (1000000000 : Int64)) q1911 dX12_size_69 ?_
      refine z_lload (pc := 72) x 6 dX12_size_72 rfl ?_
      refine z_aload_n (pc := 74) x 1 dX12_size_74 rfl rfl ?_
      refine z_aload (pc := 75) x 0 dX12_size_75 rfl ?_
      refine z_getN (pc := 77) (fun _ _ h => zAsI_eq h) x in_X9 (ci := 37) rfl (k := 0) (by decide) q2365 (fun _ h => h) dX12_size_77 fun v77 => ?_
      refine z_aload (pc := 80) x 0 dX12_size_80 rfl ?_
      refine z_aload (pc := 82) x 5 dX12_size_82 rfl ?_
      refine z_getN (pc := 84) (fun _ _ h => zAsR_eq h) x in_X16 (ci := 22) rfl (k := 2) (by decide) q1889 (fun _ h => h) dX12_size_84 fun v84 => ?_
      refine z_call (pc := 87) (z_canV (pc := 87) (As := [zP v84]) (st := [zI v77, zP a0, zL a5, zL (1000000000 : Int64)]) x (ci := 37) rfl (fun b => m_X9_code hl (some b) v84) q961 q800 (x.2.2.2.2.1 _ q801) q143 q802 n_X9_code ⟨by omega, by omega⟩ (Nat.le_of_ble_eq_true rfl) dX12_size_87) (zv_I fun v87 => ?_) (fun q => zx_thr x (fun z hz => (htab z hz).elim) q)
      refine z_aload_n (pc := 90) x 4 dX12_size_90 rfl rfl ?_
      refine z_call (pc := 91) (z_canV (pc := 91) (As := [zI v77, zI v87, zP a3]) (st := [zL a5, zL (1000000000 : Int64)]) x (ci := 18) rfl (fun b => hr_X12_size (some b) v77 v87 a3) q1912 q1907 (x.2.2.2.2.1 _ q1908) q148 q1909 n_X12_size ⟨by omega, by omega⟩ (Nat.le_of_ble_eq_true rfl) dX12_size_91) (zv_L fun v91 => ?_) (fun q => zx_thr x (fun z hz => (htab z hz).elim) q)
      refine z_ladd (pc := 94) x dX12_size_94 ?_
      refine z_lmin (pc := 95) x q1913 q1914 q130 q1915 (by omega) (zSum (k := 0) rfl (by omega)) dX12_size_95 ?_
      refine z_lstore (pc := 98) (lv' := [(5, zL (if (a5 + v91) < (1000000000 : Int64) then (a5 + v91) else (1000000000 : Int64))), (8, zP v59), (0, zP a0), (1, zI a1), (2, zI a2), (3, zP a3), (4, zP a4), (7, zP a7)]) x dX12_size_98 (Nat.le_of_ble_eq_true rfl) rfl ?_
      refine z_goto (pc := 100) (tgt := 47) x dX12_size_100 rfl ?_
      exact z_sub [2, 3, 4, 5, 6, 0, 7] rfl (h47 a0 a1 a2 a3 a4 (if (a5 + v91) < (1000000000 : Int64) then (a5 + v91) else (1000000000 : Int64)) a7)
def s_X12_sizeb (E : zE) (r_X12_size : Option Nat → Int32 → Int32 → Option Nat → zM) (a0 : Option Nat) (a1 : Int32) (a2 : Int32) (a3 : Option Nat) : zM := zGetR a0 18 1 (fun v1 => zGaR 7 v1 a1 (fun v5 => zGaI 0 v5 a2 (fun v7 => if v7 ≤ 0 then (s_X12_size_110 E r_X12_size a0 a1 a2 a3) else (zGaR 9 a3 a1 (fun v13 => zGaL 3 v13 a2 (fun v15 => if (lg_cmp v15 (0 : Int64)) = 0 then (zC (zRv a0 [(18, fun b => s_X12_step E (some b) a1 a2)]) zThr (zKR (fun v24 => zGetR v24 22 1 (fun v34 => zGetR v34 31 2 (fun v37 => zC (zRv v37 [(10, fun b => s_J2_iterator E (some b))]) zThr (zKR (fun v40 => s_X12_size_47 E r_X12_size zN a0 a1 a2 a3 v24 (1 : Int64) v40))))))) else (s_X12_size_110 E r_X12_size a0 a1 a2 a3)))))))
theorem m_X12_sizeb {l : Launch} {E : zE} {D : va_G} {tA : Nat → ClassId} (hl : l.stackTraces = false) {fr_X12_size : Nat} {r_X12_size : Option Nat → Int32 → Int32 → Option Nat → zM} (hr_X12_size : ∀ (a0 : Option Nat) (a1 : Int32) (a2 : Int32) (a3 : Option Nat), zMet l E D tA yX12_size (ws_ yX12_size cX12_size 9 (Option.some Jvm.ClassFile.FieldType.long)) fr_X12_size (r_X12_size a0 a1 a2 a3) [zP a0, zI a1, zI a2, zP a3]) (hB_X12_size : 200 ≤ fr_X12_size) (a0 : Option Nat) (a1 : Int32) (a2 : Int32) (a3 : Option Nat) : zMet l E D tA yX12_size (ws_ yX12_size cX12_size 9 (Option.some Jvm.ClassFile.FieldType.long)) (fr_X12_size + 1) (s_X12_sizeb E r_X12_size a0 a1 a2 a3) [zP a0, zI a1, zI a2, zP a3] := by
  refine z_met hl (by decide +kernel) (by rw [zSl_len]; exact (Nat.le_of_ble_eq_true rfl)) fun p e R s m args below meth c k0 x hret hnm htab => ?_
  refine z_lv [(0, zP a0), (1, zI a1), (2, zI a2), (3, zP a3)] rfl ?_
  unfold s_X12_sizeb
  refine z_aload_n (pc := 0) x 0 dX12_size_0 rfl rfl ?_
  refine z_get (pc := 1) (fun _ _ h => zAsR_eq h) x in_X12 (ci := 18) rfl (k := 1) (by decide) q999 (fun _ h => h) dX12_size_1 fun v1 => ?_
  refine z_iload_n (pc := 4) x 1 dX12_size_4 rfl rfl ?_
  refine z_aald (pc := 5) x (t := 7) rfl rfl dX12_size_5 fun v5 => ?_
  refine z_iload_n (pc := 6) x 2 dX12_size_6 rfl rfl ?_
  refine z_iald (pc := 7) x (t := 0) rfl dX12_size_7 fun v7 => ?_
  refine z_if_le (pc := 8) (tgt := 110) x dX12_size_8 rfl (fun _ => ?_) (fun _ => ?_)
  · exact z_sub [0, 1, 2, 3] rfl (w_X12_size_110 x hl hret hnm htab hr_X12_size hB_X12_size a0 a1 a2 a3)
  · refine z_aload_n (pc := 11) x 3 dX12_size_11 rfl rfl ?_
    refine z_iload_n (pc := 12) x 1 dX12_size_12 rfl rfl ?_
    refine z_aald (pc := 13) x (t := 9) rfl rfl dX12_size_13 fun v13 => ?_
    refine z_iload_n (pc := 14) x 2 dX12_size_14 rfl rfl ?_
    refine z_lald (pc := 15) x (t := 3) rfl dX12_size_15 fun v15 => ?_
    refine z_lconst (pc := 16) x (v := (0 : Int64)) dX12_size_16 rfl ?_
    refine z_lcmp (pc := 17) x dX12_size_17 ?_
    refine z_if_ne (pc := 18) (tgt := 110) x dX12_size_18 rfl (fun _ => ?_) (fun _ => ?_)
    · refine z_aload_n (pc := 21) x 0 dX12_size_21 rfl rfl ?_
      refine z_iload_n (pc := 22) x 1 dX12_size_22 rfl rfl ?_
      refine z_iload_n (pc := 23) x 2 dX12_size_23 rfl rfl ?_
      refine z_call (pc := 24) (z_canV (pc := 24) (As := [zI a1, zI a2]) (st := []) x (ci := 18) rfl (fun b => m_X12_step hl (some b) a1 a2) q1910 q1844 (x.2.2.2.2.1 _ q1845) q148 q1846 n_X12_step ⟨by omega, by omega⟩ (Nat.le_of_ble_eq_true rfl) dX12_size_24) (zv_R fun v24 => ?_) (fun q => zx_thr x (fun z hz => (htab z hz).elim) q)
      refine z_astore (pc := 27) (lv' := [(4, zP v24), (0, zP a0), (1, zI a1), (2, zI a2), (3, zP a3)]) x dX12_size_27 (Nat.le_of_ble_eq_true rfl) rfl ?_
      refine z_lconst (pc := 29) x (v := (1 : Int64)) dX12_size_29 rfl ?_
      refine z_lstore (pc := 30) (lv' := [(5, zL (1 : Int64)), (4, zP v24), (0, zP a0), (1, zI a1), (2, zI a2), (3, zP a3)]) x dX12_size_30 (Nat.le_of_ble_eq_true rfl) rfl ?_
      refine z_aload (pc := 32) x 1 dX12_size_32 rfl ?_
      refine z_getN (pc := 34) (fun _ _ h => zAsR_eq h) x in_X16 (ci := 22) rfl (k := 1) (by decide) q1887 (fun _ h => h) dX12_size_34 fun v34 => ?_
      refine z_getN (pc := 37) (fun _ _ h => zAsR_eq h) x in_X25 (ci := 31) rfl (k := 2) (by decide) q2507 (fun _ h => h) dX12_size_37 fun v37 => ?_
      refine z_call (pc := 40) (z_canIF (pc := 40) (As := []) (st := []) (x9 := ⟨"java/util/List", "iterator", "()Ljava/util/Iterator;"⟩) x (ci := 10) rfl (fun b => m_J2_iterator hl (some b)) q955 q383 q382 (by decide) q385 q387 q388 q386 q384 q112 q389 nx_java_util_List_iterator___Ljava_util_Iterator_ ⟨by omega, by omega⟩ (Nat.le_of_ble_eq_true rfl) dX12_size_40) (zv_R fun v40 => ?_) (fun q => zx_thr x (fun z hz => (htab z hz).elim) q)
      refine z_astore (pc := 45) (lv' := [(7, zP v40), (5, zL (1 : Int64)), (4, zP v24), (0, zP a0), (1, zI a1), (2, zI a2), (3, zP a3)]) x dX12_size_45 (Nat.le_of_ble_eq_true rfl) rfl ?_
      exact z_sub [3, 4, 5, 6, 2, 1, 0] rfl (w_X12_size_47 x hl hret hnm htab hr_X12_size hB_X12_size zN a0 a1 a2 a3 v24 (1 : Int64) v40)
    · exact z_sub [0, 1, 2, 3] rfl (w_X12_size_110 x hl hret hnm htab hr_X12_size hB_X12_size a0 a1 a2 a3)
def s_X12_size (E : zE) : Nat → Option Nat → Int32 → Int32 → Option Nat → zM
  | 0, _, _, _, _ => zFail
  | n + 1, a0, a1, a2, a3 => s_X12_sizeb E (s_X12_size E n) a0 a1 a2 a3
theorem m_X12_size {l : Launch} {E : zE} {D : va_G} {tA : Nat → ClassId} (hl : l.stackTraces = false) : ∀ (n : Nat) (a0 : Option Nat) (a1 : Int32) (a2 : Int32) (a3 : Option Nat), zMet l E D tA yX12_size (ws_ yX12_size cX12_size 9 (Option.some Jvm.ClassFile.FieldType.long)) (200 + 1 * n) (s_X12_size E n a0 a1 a2 a3) [zP a0, zI a1, zI a2, zP a3]
  | 0, _, _, _, _ => fun h out h2 hf => nomatch hf
  | n + 1, a0, a1, a2, a3 => by
    rw [Nat.mul_succ, ← Nat.add_assoc]
    exact m_X12_sizeb hl (m_X12_size hl n) (by omega) a0 a1 a2 a3
/-! X1_proofSize -/
def s_X1_proofSize (E : zE) (a0 : Option Nat) (a1 : Int32) (a2 : Int32) (a3 : Int32) : zM := zC (zRv a0 [(16, fun b => s_X1_requireTrue E (some b) a1 a2 a3)]) zThr (zKI (fun v4 => zNew 18 2 [.null, .null] (fun v9 => zGetR a0 16 0 (fun v14 => zC (zSp v9 (fun b => s_X12_init E (some b) v14)) zThr (zKV (zC (zRv v9 [(18, fun b => s_X12_inRounds E (some b))]) zThr (zKR (fun v20 => zNewM 9 3 zAr0L (8 : Int32) (100 : Int32) (fun v33 => zC (zRv v20 [(18, fun b => s_X12_size E 50 (some b) (a1 - (97 : Int32)) v4 v33)]) zThr (zKL (fun v37 => zRet (some (.long v37)))))))))))))
theorem m_X1_proofSize {l : Launch} {E : zE} {D : va_G} {tA : Nat → ClassId} (hl : l.stackTraces = false) (a0 : Option Nat) (a1 : Int32) (a2 : Int32) (a3 : Int32) : zMet l E D tA yX1_proofSize (ws_ yX1_proofSize cX1_proofSize 5 (Option.some Jvm.ClassFile.FieldType.long)) 251 (s_X1_proofSize E a0 a1 a2 a3) [zP a0, zI a1, zI a2, zI a3] := by
  refine z_met hl (by decide +kernel) (by rw [zSl_len]; exact (Nat.le_of_ble_eq_true rfl)) fun p e R s m args below meth c k0 x hret hnm htab => ?_
  refine z_lv [(0, zP a0), (1, zI a1), (2, zI a2), (3, zI a3)] rfl ?_
  unfold s_X1_proofSize
  refine z_aload_n (pc := 0) x 0 dX1_proofSize_0 rfl rfl ?_
  refine z_iload_n (pc := 1) x 1 dX1_proofSize_1 rfl rfl ?_
  refine z_iload_n (pc := 2) x 2 dX1_proofSize_2 rfl rfl ?_
  refine z_iload_n (pc := 3) x 3 dX1_proofSize_3 rfl rfl ?_
  refine z_call (pc := 4) (z_canV (pc := 4) (As := [zI a1, zI a2, zI a3]) (st := []) x (ci := 16) rfl (fun b => m_X1_requireTrue hl (some b) a1 a2 a3) q1813 q1815 (z_selP x (ci := 16) rfl (by decide) (zNi_inst x q168) q1814 q1815) q108 q1816 n_X1_requireTrue ⟨by decide, by decide⟩ (Nat.le_of_ble_eq_true rfl) dX1_proofSize_4) (zv_I fun v4 => ?_) (fun q => zx_thr x (fun z hz => (htab z hz).elim) q)
  refine z_istore (pc := 7) (lv' := [(4, zI v4), (0, zP a0), (1, zI a1), (2, zI a2), (3, zI a3)]) x dX1_proofSize_7 (Nat.le_of_ble_eq_true rfl) rfl ?_
  refine z_new (pc := 9) x in_X12 tyX12 tyX12_ok q1821 q952 q148 (ci := 18) rfl (by decide) (by decide +kernel) dX1_proofSize_9 fun v9 => ?_
  refine z_dup (pc := 12) x dX1_proofSize_12 rfl ?_
  refine z_aload_n (pc := 13) x 1 dX1_proofSize_13 rfl rfl ?_
  refine z_get (pc := 14) (fun _ _ h => zAsR_eq h) x in_X1 (ci := 16) rfl (k := 0) (by decide) q320 (fun _ h => h) dX1_proofSize_14 fun v14 => ?_
  refine z_call (pc := 17) (z_canI (pc := 17) (ret := none) (As := [zP v14]) (st := [zP v9]) x (fun b => m_X12_init hl (some b) v14) q1822 rfl q992 q148 q993 n_X12_init ⟨by decide, by decide⟩ (Nat.le_of_ble_eq_true rfl) dX1_proofSize_17) (zv_V ?_) (fun q => zx_thr x (fun z hz => (htab z hz).elim) q)
  refine z_call (pc := 20) (z_canV (pc := 20) (As := []) (st := []) x (ci := 18) rfl (fun b => m_X12_inRounds hl (some b)) q1823 q1009 (x.2.2.2.2.1 _ q1010) q148 q1011 n_X12_inRounds ⟨by decide, by decide⟩ (Nat.le_of_ble_eq_true rfl) dX1_proofSize_20) (zv_R fun v20 => ?_) (fun q => zx_thr x (fun z hz => (htab z hz).elim) q)
  refine z_iload_n (pc := 23) x 2 dX1_proofSize_23 rfl rfl ?_
  refine z_bipush (pc := 24) x (v := (97 : Int32)) dX1_proofSize_24 rfl ?_
  refine z_isub (pc := 26) x dX1_proofSize_26 ?_
  refine z_iload (pc := 27) x 0 dX1_proofSize_27 rfl ?_
  refine z_bipush (pc := 29) x (v := (8 : Int32)) dX1_proofSize_29 rfl ?_
  refine z_bipush (pc := 31) x (v := (100 : Int32)) dX1_proofSize_31 rfl ?_
  refine z_newM (pc := 33) x (t := 9) (t1 := 3) (ty := .long) rfl rfl (fun _ hc => hc) (by decide) rfl rfl q1904 q1905 q1916 (fun _ _ => rfl) dX1_proofSize_33 fun v33 => ?_
  refine z_call (pc := 37) (z_canV (pc := 37) (As := [zI (a1 - (97 : Int32)), zI v4, zP v33]) (st := []) x (ci := 18) rfl (fun b => m_X12_size hl 50 (some b) (a1 - (97 : Int32)) v4 v33) q1906 q1907 (x.2.2.2.2.1 _ q1908) q148 q1909 n_X12_size ⟨by omega, by omega⟩ (Nat.le_of_ble_eq_true rfl) dX1_proofSize_37) (zv_L fun v37 => ?_) (fun q => zx_thr x (fun z hz => (htab z hz).elim) q)
  exact z_lret (pc := 40) x hret dX1_proofSize_40
/-! X0_proofSize -/
def s_X0_proofSize_14 (E : zE) (b0 : Option Nat) : zM := zRet (some (.int (1 : Int32)))
theorem w_X0_proofSize_14 (x : zCx p l R s m args meth c E D tA cX0_proofSize 6 yX0_proofSize.cls 252) (hl : l.stackTraces = false) (hret : meth.sig.returnType = (Option.some Jvm.ClassFile.FieldType.int)) (hnm : meth.name = yX0_proofSize.name) (htab : c.exceptionTable.toList = tableOf [(0, 11, 14, 13), (0, 11, 18, 22)]) (b0 : Option Nat) : zW p l e R s m args below meth c E D tA 6 k0 (s_X0_proofSize_14 E b0) [] 14 [zP b0] := by
  unfold s_X0_proofSize_14
  refine z_astore (pc := 14) (lv' := [(5, zP b0)]) x dX0_proofSize_14 (Nat.le_of_ble_eq_true rfl) rfl ?_
  refine z_iconst (pc := 16) x (v := (1 : Int32)) dX0_proofSize_16 rfl ?_
  exact z_iret (pc := 17) x hret dX0_proofSize_17
def s_X0_proofSize_18 (E : zE) (b0 : Option Nat) : zM := zRet (some (.int (2 : Int32)))
theorem w_X0_proofSize_18 (x : zCx p l R s m args meth c E D tA cX0_proofSize 6 yX0_proofSize.cls 252) (hl : l.stackTraces = false) (hret : meth.sig.returnType = (Option.some Jvm.ClassFile.FieldType.int)) (hnm : meth.name = yX0_proofSize.name) (htab : c.exceptionTable.toList = tableOf [(0, 11, 14, 13), (0, 11, 18, 22)]) (b0 : Option Nat) : zW p l e R s m args below meth c E D tA 6 k0 (s_X0_proofSize_18 E b0) [] 18 [zP b0] := by
  unfold s_X0_proofSize_18
  refine z_astore (pc := 18) (lv' := [(5, zP b0)]) x dX0_proofSize_18 (Nat.le_of_ble_eq_true rfl) rfl ?_
  refine z_iconst (pc := 20) x (v := (2 : Int32)) dX0_proofSize_20 rfl ?_
  exact z_iret (pc := 21) x hret dX0_proofSize_21
def s_X0_proofSize (E : zE) (a0 : Option Nat) (a1 : Int32) (a2 : Int32) (a3 : Int32) (a4 : Option Nat) : zM := zC (zRv a0 [(16, fun b => s_X1_proofSize E (some b) a1 a2 a3)]) (fun q => zCat1 q [(0, s_X0_proofSize_14 E (some q)), (6, s_X0_proofSize_18 E (some q))]) (zKL (fun v7 => zSaL E 3 a4 (0 : Int32) v7 (zRet (some (.int (0 : Int32))))))
theorem m_X0_proofSize {l : Launch} {E : zE} {D : va_G} {tA : Nat → ClassId} (hl : l.stackTraces = false) (a0 : Option Nat) (a1 : Int32) (a2 : Int32) (a3 : Int32) (a4 : Option Nat) : zMet l E D tA yX0_proofSize (wsW_ yX0_proofSize cX0_proofSize 6 (Option.some Jvm.ClassFile.FieldType.int) [(0, 11, 14, 13), (0, 11, 18, 22)]) 252 (s_X0_proofSize E a0 a1 a2 a3 a4) [zP a0, zI a1, zI a2, zI a3, zP a4] := by
  refine z_metW hl (by decide +kernel) (by rw [zSl_len]; exact (Nat.le_of_ble_eq_true rfl)) fun p e R s m args below meth c k0 x hret hnm htab => ?_
  refine z_lv [(0, zP a0), (1, zI a1), (2, zI a2), (3, zI a3), (4, zP a4)] rfl ?_
  unfold s_X0_proofSize
  refine z_aload (pc := 0) x 4 dX0_proofSize_0 rfl ?_
  refine z_iconst (pc := 2) x (v := (0 : Int32)) dX0_proofSize_2 rfl ?_
  refine z_aload_n (pc := 3) x 0 dX0_proofSize_3 rfl rfl ?_
  refine z_iload_n (pc := 4) x 1 dX0_proofSize_4 rfl rfl ?_
  refine z_iload_n (pc := 5) x 2 dX0_proofSize_5 rfl rfl ?_
  refine z_iload_n (pc := 6) x 3 dX0_proofSize_6 rfl rfl ?_
  refine z_call (pc := 7) (z_canV (pc := 7) (As := [zI a1, zI a2, zI a3]) (st := [zI (0 : Int32), zP a4]) x (ci := 16) rfl (fun b => m_X1_proofSize hl (some b) a1 a2 a3) q1900 q1901 (x.2.2.2.2.1 _ q1902) q108 q1903 n_X1_proofSize ⟨by decide, by decide⟩ (Nat.le_of_ble_eq_true rfl) dX0_proofSize_7) (zv_L fun v7 => ?_) (fun q => zx_cat x [(0, s_X0_proofSize_14 E (some q), ⟨0, 11, 14, 13⟩), (6, s_X0_proofSize_18 E (some q), ⟨0, 11, 18, 22⟩)] htab (List.forall_mem_cons.mpr ⟨⟨rfl, (show (13 : Nat) ≠ 0 by decide), q1462, z_sub [] rfl (w_X0_proofSize_14 x hl hret hnm htab (some q))⟩, (List.forall_mem_cons.mpr ⟨⟨rfl, (show (22 : Nat) ≠ 0 by decide), q1642, z_sub [] rfl (w_X0_proofSize_18 x hl hret hnm htab (some q))⟩, (fun _ hj => nomatch hj)⟩)⟩))
  refine z_last (pc := 10) x (t := 3) rfl dX0_proofSize_10 ?_
  refine z_goto (pc := 11) (tgt := 22) x dX0_proofSize_11 rfl ?_
  refine z_iconst (pc := 22) x (v := (0 : Int32)) dX0_proofSize_22 rfl ?_
  exact z_iret (pc := 23) x hret dX0_proofSize_23
/-! X1_requireGoal -/
def s_X1_requireGoal_41 (E : zE) (a3 : Int32) (b0 : Int32) : zM := zC (s_X1_requireArgument E b0) zThr (zKV (zRet (some (.int a3))))
theorem w_X1_requireGoal_41 (x : zCx p l R s m args meth c E D tA cX1_requireGoal 4 yX1_requireGoal.cls 11) (hl : l.stackTraces = false) (hret : meth.sig.returnType = (Option.some Jvm.ClassFile.FieldType.int)) (hnm : meth.name = yX1_requireGoal.name) (htab : ∀ z ∈ c.exceptionTable.toList, False) (a3 : Int32) (b0 : Int32) : zW p l e R s m args below meth c E D tA 4 k0 (s_X1_requireGoal_41 E a3 b0) [(3, zI a3)] 41 [zI b0] := by
  unfold s_X1_requireGoal_41
  refine z_call (pc := 41) (z_canS (pc := 41) (As := [zI b0]) (st := []) x (m_X1_requireArgument hl b0) q1525 q1526 q108 q1527 n_X1_requireArgument ⟨by decide, by decide⟩ (Nat.le_of_ble_eq_true rfl) dX1_requireGoal_41) (zv_V ?_) (fun q => zx_thr x (fun z hz => (htab z hz).elim) q)
  refine z_iload_n (pc := 44) x 0 dX1_requireGoal_44 rfl rfl ?_
  exact z_iret (pc := 45) x hret dX1_requireGoal_45
def s_X1_requireGoal_40 (E : zE) (a3 : Int32) : zM := s_X1_requireGoal_41 E a3 (0 : Int32)
theorem w_X1_requireGoal_40 (x : zCx p l R s m args meth c E D tA cX1_requireGoal 4 yX1_requireGoal.cls 11) (hl : l.stackTraces = false) (hret : meth.sig.returnType = (Option.some Jvm.ClassFile.FieldType.int)) (hnm : meth.name = yX1_requireGoal.name) (htab : ∀ z ∈ c.exceptionTable.toList, False) (a3 : Int32) : zW p l e R s m args below meth c E D tA 4 k0 (s_X1_requireGoal_40 E a3) [(3, zI a3)] 40 [] := by
  unfold s_X1_requireGoal_40
  refine z_iconst (pc := 40) x (v := (0 : Int32)) dX1_requireGoal_40 rfl ?_
  exact z_sub [0] rfl (w_X1_requireGoal_41 x hl hret hnm htab a3 (0 : Int32))
def s_X1_requireGoal_30 (E : zE) (a3 : Int32) (b0 : Int32) (b1 : Int32) (b2 : Int32) : zM := zC (s_X1_isBetween E b0 b1 b2) zThr (zKI (fun v30 => if v30 = 0 then (s_X1_requireGoal_40 E a3) else (s_X1_requireGoal_41 E a3 (1 : Int32))))
theorem w_X1_requireGoal_30 (x : zCx p l R s m args meth c E D tA cX1_requireGoal 4 yX1_requireGoal.cls 11) (hl : l.stackTraces = false) (hret : meth.sig.returnType = (Option.some Jvm.ClassFile.FieldType.int)) (hnm : meth.name = yX1_requireGoal.name) (htab : ∀ z ∈ c.exceptionTable.toList, False) (a3 : Int32) (b0 : Int32) (b1 : Int32) (b2 : Int32) : zW p l e R s m args below meth c E D tA 4 k0 (s_X1_requireGoal_30 E a3 b0 b1 b2) [(3, zI a3)] 30 [zI b2, zI b1, zI b0] := by
  unfold s_X1_requireGoal_30
  refine z_call (pc := 30) (z_canS (pc := 30) (As := [zI b0, zI b1, zI b2]) (st := []) x (m_X1_isBetween hl b0 b1 b2) q1522 q1523 q108 q1524 n_X1_isBetween ⟨by decide, by decide⟩ (Nat.le_of_ble_eq_true rfl) dX1_requireGoal_30) (zv_I fun v30 => ?_) (fun q => zx_thr x (fun z hz => (htab z hz).elim) q)
  refine z_if_eq (pc := 33) (tgt := 40) x dX1_requireGoal_33 rfl (fun _ => ?_) (fun _ => ?_)
  · exact z_sub [0] rfl (w_X1_requireGoal_40 x hl hret hnm htab a3)
  · refine z_iconst (pc := 36) x (v := (1 : Int32)) dX1_requireGoal_36 rfl ?_
    refine z_goto (pc := 37) (tgt := 41) x dX1_requireGoal_37 rfl ?_
    exact z_sub [0] rfl (w_X1_requireGoal_41 x hl hret hnm htab a3 (1 : Int32))
def s_X1_requireGoal (E : zE) (a0 : Int32) (a1 : Int32) (a2 : Int32) : zM := zC (s_X1_requirePredicate E a0) zThr (zKI (fun v1 => zC (s_X1_isBetween E a1 (-1 : Int32) (9 : Int32)) zThr (zKI (fun v9 => if v9 = 0 then (s_X1_requireGoal_40 E v1) else (zC (s_X1_isPair E v1) zThr (zKI (fun v18 => if v18 = 0 then (s_X1_requireGoal_30 E v1 a2 (-1 : Int32) (-1 : Int32)) else (s_X1_requireGoal_30 E v1 a2 (-1 : Int32) (9 : Int32)))))))))
theorem m_X1_requireGoal {l : Launch} {E : zE} {D : va_G} {tA : Nat → ClassId} (hl : l.stackTraces = false) (a0 : Int32) (a1 : Int32) (a2 : Int32) : zMet l E D tA yX1_requireGoal (ws_ yX1_requireGoal cX1_requireGoal 4 (Option.some Jvm.ClassFile.FieldType.int)) 11 (s_X1_requireGoal E a0 a1 a2) [zI a0, zI a1, zI a2] := by
  refine z_met hl (by decide +kernel) (by rw [zSl_len]; exact (Nat.le_of_ble_eq_true rfl)) fun p e R s m args below meth c k0 x hret hnm htab => ?_
  refine z_lv [(0, zI a0), (1, zI a1), (2, zI a2)] rfl ?_
  unfold s_X1_requireGoal
  refine z_iload_n (pc := 0) x 0 dX1_requireGoal_0 rfl rfl ?_
  refine z_call (pc := 1) (z_canS (pc := 1) (As := [zI a0]) (st := []) x (m_X1_requirePredicate hl a0) q1519 q1520 q108 q1521 n_X1_requirePredicate ⟨by decide, by decide⟩ (Nat.le_of_ble_eq_true rfl) dX1_requireGoal_1) (zv_I fun v1 => ?_) (fun q => zx_thr x (fun z hz => (htab z hz).elim) q)
  refine z_istore_n (pc := 4) (lv' := [(3, zI v1), (0, zI a0), (1, zI a1), (2, zI a2)]) x dX1_requireGoal_4 rfl (Nat.le_of_ble_eq_true rfl) rfl ?_
  refine z_iload_n (pc := 5) x 2 dX1_requireGoal_5 rfl rfl ?_
  refine z_iconst (pc := 6) x (v := (-1 : Int32)) dX1_requireGoal_6 rfl ?_
  refine z_bipush (pc := 7) x (v := (9 : Int32)) dX1_requireGoal_7 rfl ?_
  refine z_call (pc := 9) (z_canS (pc := 9) (As := [zI a1, zI (-1 : Int32), zI (9 : Int32)]) (st := []) x (m_X1_isBetween hl a1 (-1 : Int32) (9 : Int32)) q1522 q1523 q108 q1524 n_X1_isBetween ⟨by decide, by decide⟩ (Nat.le_of_ble_eq_true rfl) dX1_requireGoal_9) (zv_I fun v9 => ?_) (fun q => zx_thr x (fun z hz => (htab z hz).elim) q)
  refine z_if_eq (pc := 12) (tgt := 40) x dX1_requireGoal_12 rfl (fun _ => ?_) (fun _ => ?_)
  · exact z_sub [0] rfl (w_X1_requireGoal_40 x hl hret hnm htab v1)
  · refine z_iload_n (pc := 15) x 3 dX1_requireGoal_15 rfl rfl ?_
    refine z_iconst (pc := 16) x (v := (-1 : Int32)) dX1_requireGoal_16 rfl ?_
    refine z_iload_n (pc := 17) x 0 dX1_requireGoal_17 rfl rfl ?_
    refine z_call (pc := 18) (z_canS (pc := 18) (As := [zI v1]) (st := [zI (-1 : Int32), zI a2]) x (m_X1_isPair hl v1) q812 q807 q108 q808 n_X1_isPair ⟨by decide, by decide⟩ (Nat.le_of_ble_eq_true rfl) dX1_requireGoal_18) (zv_I fun v18 => ?_) (fun q => zx_thr x (fun z hz => (htab z hz).elim) q)
    refine z_if_eq (pc := 21) (tgt := 29) x dX1_requireGoal_21 rfl (fun _ => ?_) (fun _ => ?_)
    · refine z_iconst (pc := 29) x (v := (-1 : Int32)) dX1_requireGoal_29 rfl ?_
      exact z_sub [0] rfl (w_X1_requireGoal_30 x hl hret hnm htab v1 a2 (-1 : Int32) (-1 : Int32))
    · refine z_bipush (pc := 24) x (v := (9 : Int32)) dX1_requireGoal_24 rfl ?_
      refine z_goto (pc := 26) (tgt := 30) x dX1_requireGoal_26 rfl ?_
      exact z_sub [0] rfl (w_X1_requireGoal_30 x hl hret hnm htab v1 a2 (-1 : Int32) (9 : Int32))
/-! X17_init -/
def s_X17_init (E : zE) (a0 : Option Nat) (a1 : Int32) (a2 : Int32) (a3 : Int32) : zM := zSp a0 (fun _ => zNew 33 1 [.null] (fun v5 => zC (zSp v5 (fun b => s_X5_init E (some b))) zThr (zKV (zSet E a0 23 3 (zVal (zP v5)) (zSet E a0 23 0 (zVal (zI a1)) (zSet E a0 23 1 (zVal (zI a2)) (zSet E a0 23 2 (zVal (zI a3)) (zRet none))))))))
theorem m_X17_init {l : Launch} {E : zE} {D : va_G} {tA : Nat → ClassId} (hl : l.stackTraces = false) (a0 : Option Nat) (a1 : Int32) (a2 : Int32) (a3 : Int32) : zMet l E D tA yX17_init (ws_ yX17_init cX17_init 4 (Option.none : Option Jvm.ClassFile.FieldType)) 10 (s_X17_init E a0 a1 a2 a3) [zP a0, zI a1, zI a2, zI a3] := by
  refine z_met hl (by decide +kernel) (by rw [zSl_len]; exact (Nat.le_of_ble_eq_true rfl)) fun p e R s m args below meth c k0 x hret hnm htab => ?_
  refine z_lv [(0, zP a0), (1, zI a1), (2, zI a2), (3, zI a3)] rfl ?_
  unfold s_X17_init
  refine z_aload_n (pc := 0) x 0 dX17_init_0 rfl rfl ?_
  refine z_objInit (pc := 1) x q1112 q173 q174 (by omega) (zSum (k := 0) rfl (by omega)) dX17_init_1 ?_
  refine z_aload_n (pc := 4) x 0 dX17_init_4 rfl rfl ?_
  refine z_new (pc := 5) x in_X5 tyX5 tyX5_ok q1113 q231 q115 (ci := 33) rfl (by decide) (by decide +kernel) dX17_init_5 fun v5 => ?_
  refine z_dup (pc := 8) x dX17_init_8 rfl ?_
  refine z_call (pc := 9) (z_canI (pc := 9) (ret := none) (As := []) (st := [zP v5, zP a0]) x (fun b => m_X5_init hl (some b)) q1114 rfl q233 q115 q234 n_X5_init ⟨by decide, by decide⟩ (Nat.le_of_ble_eq_true rfl) dX17_init_9) (zv_V ?_) (fun q => zx_thr x (fun z hz => (htab z hz).elim) q)
  refine z_setF (pc := 12) (v := zP v5) x in_X17 tyX17 tyX17_ok nmX17 (ci := 23) rfl (k := 3) (by decide) q1122 (fun _ h => h) rfl hnm rfl (zfitR rfl _).1 (zfitR rfl _).2 dX17_init_12 ?_
  refine z_aload_n (pc := 15) x 0 dX17_init_15 rfl rfl ?_
  refine z_iload_n (pc := 16) x 1 dX17_init_16 rfl rfl ?_
  refine z_setF (pc := 17) (v := zI a1) x in_X17 tyX17 tyX17_ok nmX17 (ci := 23) rfl (k := 0) (by decide) q1115 (fun _ h => h) rfl hnm rfl rfl rfl dX17_init_17 ?_
  refine z_aload_n (pc := 20) x 0 dX17_init_20 rfl rfl ?_
  refine z_iload_n (pc := 21) x 2 dX17_init_21 rfl rfl ?_
  refine z_setF (pc := 22) (v := zI a2) x in_X17 tyX17 tyX17_ok nmX17 (ci := 23) rfl (k := 1) (by decide) q1118 (fun _ h => h) rfl hnm rfl rfl rfl dX17_init_22 ?_
  refine z_aload_n (pc := 25) x 0 dX17_init_25 rfl rfl ?_
  refine z_iload_n (pc := 26) x 3 dX17_init_26 rfl rfl ?_
  refine z_setF (pc := 27) (v := zI a3) x in_X17 tyX17 tyX17_ok nmX17 (ci := 23) rfl (k := 2) (by decide) q1120 (fun _ h => h) rfl hnm rfl rfl rfl dX17_init_27 ?_
  exact z_vret (pc := 30) x hret dX17_init_30
/-! X17_fits -/
def s_X17_fits_51 (E : zE) (a0 : Option Nat) (a1 : Int32) : zM := zGetI a0 23 2 (fun v52 => if v52 = (-1 : Int32) then (zRetN .boolean (1 : Int32)) else (zGetI a0 23 2 (fun v60 => zRem a1 (10 : Int32) (fun v66 => if v60 = v66 then (zRetN .boolean (1 : Int32)) else (zRetN .boolean (0 : Int32))))))
theorem w_X17_fits_51 (x : zCx p l R s m args meth c E D tA cX17_fits 2 yX17_fits.cls 10) (hl : l.stackTraces = false) (hret : meth.sig.returnType = (Option.some Jvm.ClassFile.FieldType.boolean)) (hnm : meth.name = yX17_fits.name) (htab : ∀ z ∈ c.exceptionTable.toList, False) (a0 : Option Nat) (a1 : Int32) : zW p l e R s m args below meth c E D tA 2 k0 (s_X17_fits_51 E a0 a1) [(0, zP a0), (1, zI a1)] 51 [] := by
  unfold s_X17_fits_51
  refine z_aload_n (pc := 51) x 0 dX17_fits_51 rfl rfl ?_
  refine z_get (pc := 52) (fun _ _ h => zAsI_eq h) x in_X17 (ci := 23) rfl (k := 2) (by decide) q1120 (fun _ h => h) dX17_fits_52 fun v52 => ?_
  refine z_iconst (pc := 55) x (v := (-1 : Int32)) dX17_fits_55 rfl ?_
  refine z_icmp_eq (pc := 56) (tgt := 70) x dX17_fits_56 rfl (fun _ => ?_) (fun _ => ?_)
  · refine z_iconst (pc := 70) x (v := (1 : Int32)) dX17_fits_70 rfl ?_
    refine z_goto (pc := 71) (tgt := 75) x dX17_fits_71 rfl ?_
    exact z_zret (pc := 75) x hret dX17_fits_75
  · refine z_aload_n (pc := 59) x 0 dX17_fits_59 rfl rfl ?_
    refine z_get (pc := 60) (fun _ _ h => zAsI_eq h) x in_X17 (ci := 23) rfl (k := 2) (by decide) q1120 (fun _ h => h) dX17_fits_60 fun v60 => ?_
    refine z_iload_n (pc := 63) x 1 dX17_fits_63 rfl rfl ?_
    refine z_bipush (pc := 64) x (v := (10 : Int32)) dX17_fits_64 rfl ?_
    refine z_irem (pc := 66) x dX17_fits_66 fun v66 => ?_
    refine z_icmp_ne (pc := 67) (tgt := 74) x dX17_fits_67 rfl (fun _ => ?_) (fun _ => ?_)
    · refine z_iconst (pc := 70) x (v := (1 : Int32)) dX17_fits_70 rfl ?_
      refine z_goto (pc := 71) (tgt := 75) x dX17_fits_71 rfl ?_
      exact z_zret (pc := 75) x hret dX17_fits_75
    · refine z_iconst (pc := 74) x (v := (0 : Int32)) dX17_fits_74 rfl ?_
      exact z_zret (pc := 75) x hret dX17_fits_75
def s_X17_fits (E : zE) (a0 : Option Nat) (a1 : Int32) : zM := zGetI a0 23 0 (fun v1 => zC (s_X1_isPair E v1) zThr (zKI (fun v4 => if v4 = 0 then (zGetI a0 23 1 (fun v11 => if v11 = (-1 : Int32) then (zRetN .boolean (1 : Int32)) else (zGetI a0 23 1 (fun v19 => if v19 = a1 then (zRetN .boolean (1 : Int32)) else (zRetN .boolean (0 : Int32)))))) else (zGetI a0 23 1 (fun v33 => if v33 = (-1 : Int32) then (s_X17_fits_51 E a0 a1) else (zGetI a0 23 1 (fun v41 => zDiv a1 (10 : Int32) (fun v47 => if v41 = v47 then (s_X17_fits_51 E a0 a1) else (zRetN .boolean (0 : Int32))))))))))
theorem m_X17_fits {l : Launch} {E : zE} {D : va_G} {tA : Nat → ClassId} (hl : l.stackTraces = false) (a0 : Option Nat) (a1 : Int32) : zMet l E D tA yX17_fits (ws_ yX17_fits cX17_fits 2 (Option.some Jvm.ClassFile.FieldType.boolean)) 10 (s_X17_fits E a0 a1) [zP a0, zI a1] := by
  refine z_met hl (by decide +kernel) (by rw [zSl_len]; exact (Nat.le_of_ble_eq_true rfl)) fun p e R s m args below meth c k0 x hret hnm htab => ?_
  refine z_lv [(0, zP a0), (1, zI a1)] rfl ?_
  unfold s_X17_fits
  refine z_aload_n (pc := 0) x 0 dX17_fits_0 rfl rfl ?_
  refine z_get (pc := 1) (fun _ _ h => zAsI_eq h) x in_X17 (ci := 23) rfl (k := 0) (by decide) q1115 (fun _ h => h) dX17_fits_1 fun v1 => ?_
  refine z_call (pc := 4) (z_canSN (pc := 4) (As := [zI v1]) (st := []) x (m_X1_isPair hl v1) q1140 q807 q108 q808 n_X1_isPair ⟨by decide, by decide⟩ (Nat.le_of_ble_eq_true rfl) dX17_fits_4) (zv_I fun v4 => ?_) (fun q => zx_thr x (fun z hz => (htab z hz).elim) q)
  refine z_if_ne (pc := 7) (tgt := 32) x dX17_fits_7 rfl (fun _ => ?_) (fun _ => ?_)
  · refine z_aload_n (pc := 10) x 0 dX17_fits_10 rfl rfl ?_
    refine z_get (pc := 11) (fun _ _ h => zAsI_eq h) x in_X17 (ci := 23) rfl (k := 1) (by decide) q1118 (fun _ h => h) dX17_fits_11 fun v11 => ?_
    refine z_iconst (pc := 14) x (v := (-1 : Int32)) dX17_fits_14 rfl ?_
    refine z_icmp_eq (pc := 15) (tgt := 26) x dX17_fits_15 rfl (fun _ => ?_) (fun _ => ?_)
    · refine z_iconst (pc := 26) x (v := (1 : Int32)) dX17_fits_26 rfl ?_
      refine z_goto (pc := 27) (tgt := 31) x dX17_fits_27 rfl ?_
      exact z_zret (pc := 31) x hret dX17_fits_31
    · refine z_aload_n (pc := 18) x 0 dX17_fits_18 rfl rfl ?_
      refine z_get (pc := 19) (fun _ _ h => zAsI_eq h) x in_X17 (ci := 23) rfl (k := 1) (by decide) q1118 (fun _ h => h) dX17_fits_19 fun v19 => ?_
      refine z_iload_n (pc := 22) x 1 dX17_fits_22 rfl rfl ?_
      refine z_icmp_ne (pc := 23) (tgt := 30) x dX17_fits_23 rfl (fun _ => ?_) (fun _ => ?_)
      · refine z_iconst (pc := 26) x (v := (1 : Int32)) dX17_fits_26 rfl ?_
        refine z_goto (pc := 27) (tgt := 31) x dX17_fits_27 rfl ?_
        exact z_zret (pc := 31) x hret dX17_fits_31
      · refine z_iconst (pc := 30) x (v := (0 : Int32)) dX17_fits_30 rfl ?_
        exact z_zret (pc := 31) x hret dX17_fits_31
  · refine z_aload_n (pc := 32) x 0 dX17_fits_32 rfl rfl ?_
    refine z_get (pc := 33) (fun _ _ h => zAsI_eq h) x in_X17 (ci := 23) rfl (k := 1) (by decide) q1118 (fun _ h => h) dX17_fits_33 fun v33 => ?_
    refine z_iconst (pc := 36) x (v := (-1 : Int32)) dX17_fits_36 rfl ?_
    refine z_icmp_eq (pc := 37) (tgt := 51) x dX17_fits_37 rfl (fun _ => ?_) (fun _ => ?_)
    · exact z_sub [0, 1] rfl (w_X17_fits_51 x hl hret hnm htab a0 a1)
    · refine z_aload_n (pc := 40) x 0 dX17_fits_40 rfl rfl ?_
      refine z_get (pc := 41) (fun _ _ h => zAsI_eq h) x in_X17 (ci := 23) rfl (k := 1) (by decide) q1118 (fun _ h => h) dX17_fits_41 fun v41 => ?_
      refine z_iload_n (pc := 44) x 1 dX17_fits_44 rfl rfl ?_
      refine z_bipush (pc := 45) x (v := (10 : Int32)) dX17_fits_45 rfl ?_
      refine z_idiv (pc := 47) x dX17_fits_47 fun v47 => ?_
      refine z_icmp_ne (pc := 48) (tgt := 74) x dX17_fits_48 rfl (fun _ => ?_) (fun _ => ?_)
      · exact z_sub [0, 1] rfl (w_X17_fits_51 x hl hret hnm htab a0 a1)
      · refine z_iconst (pc := 74) x (v := (0 : Int32)) dX17_fits_74 rfl ?_
        exact z_zret (pc := 75) x hret dX17_fits_75
/-! X2_answers -/
def s_X2_answers_39 (E : zE) (k4 : Option Nat → Option Nat → Int32 → Int32 → zM) (a0 : Option Nat) (a1 : Option Nat) (a3 : Int32) (b0 : Int32) (b1 : Int32) : zM := k4 a0 a1 (b0 + b1) (a3 + (1 : Int32))
theorem w_X2_answers_39 (x : zCx p l R s m args meth c E D tA cX2_answers 4 yX2_answers.cls 73) (hl : l.stackTraces = false) (hret : meth.sig.returnType = (Option.some Jvm.ClassFile.FieldType.int)) (hnm : meth.name = yX2_answers.name) (htab : ∀ z ∈ c.exceptionTable.toList, False) {k4 : Option Nat → Option Nat → Int32 → Int32 → zM} (h4 : ∀ (a0 : Option Nat) (a1 : Option Nat) (a2 : Int32) (a3 : Int32) , zW p l e R s m args below meth c E D tA 4 k0 (k4 a0 a1 a2 a3) [(0, zP a0), (1, zP a1), (2, zI a2), (3, zI a3)] 4 []) (a0 : Option Nat) (a1 : Option Nat) (a3 : Int32) (b0 : Int32) (b1 : Int32) : zW p l e R s m args below meth c E D tA 4 k0 (s_X2_answers_39 E k4 a0 a1 a3 b0 b1) [(0, zP a0), (1, zP a1), (3, zI a3)] 39 [zI b1, zI b0] := by
  unfold s_X2_answers_39
  refine z_iadd (pc := 39) x dX2_answers_39 ?_
  refine z_istore_n (pc := 40) (lv' := [(2, zI (b0 + b1)), (0, zP a0), (1, zP a1), (3, zI a3)]) x dX2_answers_40 rfl (Nat.le_of_ble_eq_true rfl) rfl ?_
  refine z_iinc (pc := 41) (lv' := [(3, zI (a3 + (1 : Int32))), (2, zI (b0 + b1)), (0, zP a0), (1, zP a1)]) x (v2 := (a3 + (1 : Int32))) 3 dX2_answers_41 rfl rfl (Nat.le_of_ble_eq_true rfl) rfl ?_
  refine z_goto (pc := 44) (tgt := 4) x dX2_answers_44 rfl ?_
  exact z_sub [2, 3, 1, 0] rfl (h4 a0 a1 (b0 + b1) (a3 + (1 : Int32)))
def s_X2_answers_38 (E : zE) (k4 : Option Nat → Option Nat → Int32 → Int32 → zM) (a0 : Option Nat) (a1 : Option Nat) (a3 : Int32) (b0 : Int32) : zM := s_X2_answers_39 E k4 a0 a1 a3 b0 (0 : Int32)
theorem w_X2_answers_38 (x : zCx p l R s m args meth c E D tA cX2_answers 4 yX2_answers.cls 73) (hl : l.stackTraces = false) (hret : meth.sig.returnType = (Option.some Jvm.ClassFile.FieldType.int)) (hnm : meth.name = yX2_answers.name) (htab : ∀ z ∈ c.exceptionTable.toList, False) {k4 : Option Nat → Option Nat → Int32 → Int32 → zM} (h4 : ∀ (a0 : Option Nat) (a1 : Option Nat) (a2 : Int32) (a3 : Int32) , zW p l e R s m args below meth c E D tA 4 k0 (k4 a0 a1 a2 a3) [(0, zP a0), (1, zP a1), (2, zI a2), (3, zI a3)] 4 []) (a0 : Option Nat) (a1 : Option Nat) (a3 : Int32) (b0 : Int32) : zW p l e R s m args below meth c E D tA 4 k0 (s_X2_answers_38 E k4 a0 a1 a3 b0) [(0, zP a0), (1, zP a1), (3, zI a3)] 38 [zI b0] := by
  unfold s_X2_answers_38
  refine z_iconst (pc := 38) x (v := (0 : Int32)) dX2_answers_38 rfl ?_
  exact z_sub [0, 1, 2] rfl (w_X2_answers_39 x hl hret hnm htab h4 a0 a1 a3 b0 (0 : Int32))
def s_X2_answers_4 (E : zE) : Nat → Option Nat → Option Nat → Int32 → Int32 → zM
  | 0, _, _, _, _ => zFail
  | n + 1, a0, a1, a2, a3 => if (100 : Int32) ≤ a3 then (zRet (some (.int a2))) else (zC (zRv a0 [(26, fun b => s_X2_facts E (some b))]) zThr (zKR (fun v12 => zGetI a1 23 0 (fun v16 => zC (zRv v12 [(32, fun b => s_X4_has E (some b) v16 a3)]) zThr (zKI (fun v20 => if v20 = 0 then (s_X2_answers_38 E (s_X2_answers_4 E n) a0 a1 a3 a2) else (zC (zRv a1 [(23, fun b => s_X17_fits E (some b) a3)]) zThr (zKI (fun v28 => if v28 = 0 then (s_X2_answers_38 E (s_X2_answers_4 E n) a0 a1 a3 a2) else (s_X2_answers_39 E (s_X2_answers_4 E n) a0 a1 a3 a2 (1 : Int32)))))))))))
theorem w_X2_answers_4 (x : zCx p l R s m args meth c E D tA cX2_answers 4 yX2_answers.cls 73) (hl : l.stackTraces = false) (hret : meth.sig.returnType = (Option.some Jvm.ClassFile.FieldType.int)) (hnm : meth.name = yX2_answers.name) (htab : ∀ z ∈ c.exceptionTable.toList, False) : ∀ (n : Nat) (a0 : Option Nat) (a1 : Option Nat) (a2 : Int32) (a3 : Int32), zW p l e R s m args below meth c E D tA 4 k0 (s_X2_answers_4 E n a0 a1 a2 a3) [(0, zP a0), (1, zP a1), (2, zI a2), (3, zI a3)] 4 [] := by
  intro n
  induction n with
  | zero => intro a0 a1 a2 a3; exact z_fail
  | succ n h4 =>
    intro a0 a1 a2 a3
    rw [s_X2_answers_4]
    refine z_iload_n (pc := 4) x 3 dX2_answers_4 rfl rfl ?_
    refine z_bipush (pc := 5) x (v := (100 : Int32)) dX2_answers_5 rfl ?_
    refine z_icmp_ge (pc := 7) (tgt := 47) x dX2_answers_7 rfl (fun _ => ?_) (fun _ => ?_)
    · refine z_iload_n (pc := 47) x 2 dX2_answers_47 rfl rfl ?_
      exact z_iret (pc := 48) x hret dX2_answers_48
    · refine z_iload_n (pc := 10) x 2 dX2_answers_10 rfl rfl ?_
      refine z_aload_n (pc := 11) x 0 dX2_answers_11 rfl rfl ?_
      refine z_call (pc := 12) (z_canV (pc := 12) (As := []) (st := [zI a2]) x (ci := 26) rfl (fun b => m_X2_facts hl (some b)) q984 q369 (x.2.2.2.2.1 _ q370) q109 q371 n_X2_facts ⟨by decide, by decide⟩ (Nat.le_of_ble_eq_true rfl) dX2_answers_12) (zv_R fun v12 => ?_) (fun q => zx_thr x (fun z hz => (htab z hz).elim) q)
      refine z_aload_n (pc := 15) x 1 dX2_answers_15 rfl rfl ?_
      refine z_getN (pc := 16) (fun _ _ h => zAsI_eq h) x in_X17 (ci := 23) rfl (k := 0) (by decide) q1117 (fun _ h => h) dX2_answers_16 fun v16 => ?_
      refine z_iload_n (pc := 19) x 3 dX2_answers_19 rfl rfl ?_
      refine z_call (pc := 20) (z_canV (pc := 20) (As := [zI v16, zI a3]) (st := [zI a2]) x (ci := 32) rfl (fun b => m_X4_has hl (some b) v16 a3) q1212 q814 (x.2.2.2.2.1 _ q815) q114 q816 n_X4_has ⟨by decide, by decide⟩ (Nat.le_of_ble_eq_true rfl) dX2_answers_20) (zv_I fun v20 => ?_) (fun q => zx_thr x (fun z hz => (htab z hz).elim) q)
      refine z_if_eq (pc := 23) (tgt := 38) x dX2_answers_23 rfl (fun _ => ?_) (fun _ => ?_)
      · exact z_sub [0, 1, 3] rfl (w_X2_answers_38 x hl hret hnm htab h4 a0 a1 a3 a2)
      · refine z_aload_n (pc := 26) x 1 dX2_answers_26 rfl rfl ?_
        refine z_iload_n (pc := 27) x 3 dX2_answers_27 rfl rfl ?_
        refine z_call (pc := 28) (z_canV (pc := 28) (As := [zI a3]) (st := [zI a2]) x (ci := 23) rfl (fun b => m_X17_fits hl (some b) a3) q1933 q1137 (x.2.2.2.2.1 _ q1138) q153 q1139 n_X17_fits ⟨by decide, by decide⟩ (Nat.le_of_ble_eq_true rfl) dX2_answers_28) (zv_I fun v28 => ?_) (fun q => zx_thr x (fun z hz => (htab z hz).elim) q)
        refine z_if_eq (pc := 31) (tgt := 38) x dX2_answers_31 rfl (fun _ => ?_) (fun _ => ?_)
        · exact z_sub [0, 1, 3] rfl (w_X2_answers_38 x hl hret hnm htab h4 a0 a1 a3 a2)
        · refine z_iconst (pc := 34) x (v := (1 : Int32)) dX2_answers_34 rfl ?_
          refine z_goto (pc := 35) (tgt := 39) x dX2_answers_35 rfl ?_
          exact z_sub [0, 1, 3] rfl (w_X2_answers_39 x hl hret hnm htab h4 a0 a1 a3 a2 (1 : Int32))
def s_X2_answers (E : zE) (a0 : Option Nat) (a1 : Option Nat) : zM := s_X2_answers_4 E zN a0 a1 (0 : Int32) (0 : Int32)
theorem m_X2_answers {l : Launch} {E : zE} {D : va_G} {tA : Nat → ClassId} (hl : l.stackTraces = false) (a0 : Option Nat) (a1 : Option Nat) : zMet l E D tA yX2_answers (ws_ yX2_answers cX2_answers 4 (Option.some Jvm.ClassFile.FieldType.int)) 73 (s_X2_answers E a0 a1) [zP a0, zP a1] := by
  refine z_met hl (by decide +kernel) (by rw [zSl_len]; exact (Nat.le_of_ble_eq_true rfl)) fun p e R s m args below meth c k0 x hret hnm htab => ?_
  refine z_lv [(0, zP a0), (1, zP a1)] rfl ?_
  unfold s_X2_answers
  refine z_iconst (pc := 0) x (v := (0 : Int32)) dX2_answers_0 rfl ?_
  refine z_istore_n (pc := 1) (lv' := [(2, zI (0 : Int32)), (0, zP a0), (1, zP a1)]) x dX2_answers_1 rfl (Nat.le_of_ble_eq_true rfl) rfl ?_
  refine z_iconst (pc := 2) x (v := (0 : Int32)) dX2_answers_2 rfl ?_
  refine z_istore_n (pc := 3) (lv' := [(3, zI (0 : Int32)), (2, zI (0 : Int32)), (0, zP a0), (1, zP a1)]) x dX2_answers_3 rfl (Nat.le_of_ble_eq_true rfl) rfl ?_
  exact z_sub [2, 3, 1, 0] rfl (w_X2_answers_4 x hl hret hnm htab zN a0 a1 (0 : Int32) (0 : Int32))
/-! X1_answers -/
def s_X1_answers (E : zE) (a0 : Option Nat) (a1 : Int32) (a2 : Int32) (a3 : Int32) : zM := zC (s_X1_requireGoal E a1 a2 a3) zThr (zKI (fun v3 => zGetR a0 16 0 (fun v9 => zNew 23 4 [.int 0, .int 0, .int 0, .null] (fun v12 => zC (zSp v12 (fun b => s_X17_init E (some b) v3 a2 a3)) zThr (zKV (zC (zRv v9 [(26, fun b => s_X2_answers E (some b) v12)]) zThr (zKI (fun v23 => zRet (some (.int v23))))))))))
theorem m_X1_answers {l : Launch} {E : zE} {D : va_G} {tA : Nat → ClassId} (hl : l.stackTraces = false) (a0 : Option Nat) (a1 : Int32) (a2 : Int32) (a3 : Int32) : zMet l E D tA yX1_answers (ws_ yX1_answers cX1_answers 5 (Option.some Jvm.ClassFile.FieldType.int)) 74 (s_X1_answers E a0 a1 a2 a3) [zP a0, zI a1, zI a2, zI a3] := by
  refine z_met hl (by decide +kernel) (by rw [zSl_len]; exact (Nat.le_of_ble_eq_true rfl)) fun p e R s m args below meth c k0 x hret hnm htab => ?_
  refine z_lv [(0, zP a0), (1, zI a1), (2, zI a2), (3, zI a3)] rfl ?_
  unfold s_X1_answers
  refine z_iload_n (pc := 0) x 1 dX1_answers_0 rfl rfl ?_
  refine z_iload_n (pc := 1) x 2 dX1_answers_1 rfl rfl ?_
  refine z_iload_n (pc := 2) x 3 dX1_answers_2 rfl rfl ?_
  refine z_call (pc := 3) (z_canS (pc := 3) (As := [zI a1, zI a2, zI a3]) (st := []) x (m_X1_requireGoal hl a1 a2 a3) q1924 q1925 q108 q1926 n_X1_requireGoal ⟨by decide, by decide⟩ (Nat.le_of_ble_eq_true rfl) dX1_answers_3) (zv_I fun v3 => ?_) (fun q => zx_thr x (fun z hz => (htab z hz).elim) q)
  refine z_istore (pc := 6) (lv' := [(4, zI v3), (0, zP a0), (1, zI a1), (2, zI a2), (3, zI a3)]) x dX1_answers_6 (Nat.le_of_ble_eq_true rfl) rfl ?_
  refine z_aload_n (pc := 8) x 1 dX1_answers_8 rfl rfl ?_
  refine z_get (pc := 9) (fun _ _ h => zAsR_eq h) x in_X1 (ci := 16) rfl (k := 0) (by decide) q320 (fun _ h => h) dX1_answers_9 fun v9 => ?_
  refine z_new (pc := 12) x in_X17 tyX17 tyX17_ok q1927 q1108 q153 (ci := 23) rfl (by decide) (by decide +kernel) dX1_answers_12 fun v12 => ?_
  refine z_dup (pc := 15) x dX1_answers_15 rfl ?_
  refine z_iload (pc := 16) x 0 dX1_answers_16 rfl ?_
  refine z_iload_n (pc := 18) x 3 dX1_answers_18 rfl rfl ?_
  refine z_iload_n (pc := 19) x 4 dX1_answers_19 rfl rfl ?_
  refine z_call (pc := 20) (z_canI (pc := 20) (ret := none) (As := [zI v3, zI a2, zI a3]) (st := [zP v12, zP v9]) x (fun b => m_X17_init hl (some b) v3 a2 a3) q1928 rfl q1110 q153 q1111 n_X17_init ⟨by decide, by decide⟩ (Nat.le_of_ble_eq_true rfl) dX1_answers_20) (zv_V ?_) (fun q => zx_thr x (fun z hz => (htab z hz).elim) q)
  refine z_call (pc := 23) (z_canV (pc := 23) (As := [zP v12]) (st := []) x (ci := 26) rfl (fun b => m_X2_answers hl (some b) v12) q1929 q1930 (x.2.2.2.2.1 _ q1931) q109 q1932 n_X2_answers ⟨by decide, by decide⟩ (Nat.le_of_ble_eq_true rfl) dX1_answers_23) (zv_I fun v23 => ?_) (fun q => zx_thr x (fun z hz => (htab z hz).elim) q)
  exact z_iret (pc := 26) x hret dX1_answers_26
/-! X0_answers -/
def s_X0_answers_15 (E : zE) (b0 : Option Nat) : zM := zRet (some (.int (1 : Int32)))
theorem w_X0_answers_15 (x : zCx p l R s m args meth c E D tA cX0_answers 6 yX0_answers.cls 75) (hl : l.stackTraces = false) (hret : meth.sig.returnType = (Option.some Jvm.ClassFile.FieldType.int)) (hnm : meth.name = yX0_answers.name) (htab : c.exceptionTable.toList = tableOf [(0, 12, 15, 13)]) (b0 : Option Nat) : zW p l e R s m args below meth c E D tA 6 k0 (s_X0_answers_15 E b0) [] 15 [zP b0] := by
  unfold s_X0_answers_15
  refine z_astore (pc := 15) (lv' := [(5, zP b0)]) x dX0_answers_15 (Nat.le_of_ble_eq_true rfl) rfl ?_
  refine z_iconst (pc := 17) x (v := (1 : Int32)) dX0_answers_17 rfl ?_
  exact z_iret (pc := 18) x hret dX0_answers_18
def s_X0_answers (E : zE) (a0 : Option Nat) (a1 : Int32) (a2 : Int32) (a3 : Int32) (a4 : Option Nat) : zM := zC (zRv a0 [(16, fun b => s_X1_answers E (some b) a1 a2 a3)]) (fun q => zCat1 q [(0, s_X0_answers_15 E (some q))]) (zKI (fun v7 => zSaL E 3 a4 (0 : Int32) ((v7).toInt64) (zRet (some (.int (0 : Int32))))))
theorem m_X0_answers {l : Launch} {E : zE} {D : va_G} {tA : Nat → ClassId} (hl : l.stackTraces = false) (a0 : Option Nat) (a1 : Int32) (a2 : Int32) (a3 : Int32) (a4 : Option Nat) : zMet l E D tA yX0_answers (wsW_ yX0_answers cX0_answers 6 (Option.some Jvm.ClassFile.FieldType.int) [(0, 12, 15, 13)]) 75 (s_X0_answers E a0 a1 a2 a3 a4) [zP a0, zI a1, zI a2, zI a3, zP a4] := by
  refine z_metW hl (by decide +kernel) (by rw [zSl_len]; exact (Nat.le_of_ble_eq_true rfl)) fun p e R s m args below meth c k0 x hret hnm htab => ?_
  refine z_lv [(0, zP a0), (1, zI a1), (2, zI a2), (3, zI a3), (4, zP a4)] rfl ?_
  unfold s_X0_answers
  refine z_aload (pc := 0) x 4 dX0_answers_0 rfl ?_
  refine z_iconst (pc := 2) x (v := (0 : Int32)) dX0_answers_2 rfl ?_
  refine z_aload_n (pc := 3) x 0 dX0_answers_3 rfl rfl ?_
  refine z_iload_n (pc := 4) x 1 dX0_answers_4 rfl rfl ?_
  refine z_iload_n (pc := 5) x 2 dX0_answers_5 rfl rfl ?_
  refine z_iload_n (pc := 6) x 3 dX0_answers_6 rfl rfl ?_
  refine z_call (pc := 7) (z_canV (pc := 7) (As := [zI a1, zI a2, zI a3]) (st := [zI (0 : Int32), zP a4]) x (ci := 16) rfl (fun b => m_X1_answers hl (some b) a1 a2 a3) q1920 q1921 (x.2.2.2.2.1 _ q1922) q108 q1923 n_X1_answers ⟨by decide, by decide⟩ (Nat.le_of_ble_eq_true rfl) dX0_answers_7) (zv_I fun v7 => ?_) (fun q => zx_cat x [(0, s_X0_answers_15 E (some q), ⟨0, 12, 15, 13⟩)] htab (List.forall_mem_cons.mpr ⟨⟨rfl, (show (13 : Nat) ≠ 0 by decide), q1462, z_sub [] rfl (w_X0_answers_15 x hl hret hnm htab (some q))⟩, (fun _ hj => nomatch hj)⟩))
  refine z_i2l (pc := 10) x dX0_answers_10 ?_
  refine z_last (pc := 11) x (t := 3) rfl dX0_answers_11 ?_
  refine z_goto (pc := 12) (tgt := 19) x dX0_answers_12 rfl ?_
  refine z_iconst (pc := 19) x (v := (0 : Int32)) dX0_answers_19 rfl ?_
  exact z_iret (pc := 20) x hret dX0_answers_20
/-! X18_init -/
def s_X18_init (E : zE) (a0 : Option Nat) (a1 : Option Nat) : zM := zSp a0 (fun _ => zNew 10 3 [.int 0, .null, .int 0] (fun v5 => zC (zSp v5 (fun b => s_J2_init E (some b))) zThr (zKV (zSet E a0 24 1 (zVal (zP v5)) (zNew 32 1 [.null] (fun v16 => zC (zSp v16 (fun b => s_X4_init E (some b))) zThr (zKV (zSet E a0 24 2 (zVal (zP v16)) (zSet E a0 24 0 (zVal (zP a1)) (zRet none))))))))))
theorem m_X18_init {l : Launch} {E : zE} {D : va_G} {tA : Nat → ClassId} (hl : l.stackTraces = false) (a0 : Option Nat) (a1 : Option Nat) : zMet l E D tA yX18_init (ws_ yX18_init cX18_init 2 (Option.none : Option Jvm.ClassFile.FieldType)) 12 (s_X18_init E a0 a1) [zP a0, zP a1] := by
  refine z_met hl (by decide +kernel) (by rw [zSl_len]; exact (Nat.le_of_ble_eq_true rfl)) fun p e R s m args below meth c k0 x hret hnm htab => ?_
  refine z_lv [(0, zP a0), (1, zP a1)] rfl ?_
  unfold s_X18_init
  refine z_aload_n (pc := 0) x 0 dX18_init_0 rfl rfl ?_
  refine z_objInit (pc := 1) x q1068 q173 q174 (by omega) (zSum (k := 0) rfl (by omega)) dX18_init_1 ?_
  refine z_aload_n (pc := 4) x 0 dX18_init_4 rfl rfl ?_
  refine z_new (pc := 5) x in_J2 tyJ2 tyJ2_ok q1069 q182 q112 (ci := 10) rfl (by decide) (by decide +kernel) dX18_init_5 fun v5 => ?_
  refine z_dup (pc := 8) x dX18_init_8 rfl ?_
  refine z_call (pc := 9) (z_canI (pc := 9) (ret := none) (As := []) (st := [zP v5, zP a0]) x (fun b => m_J2_init hl (some b)) q1070 rfl q184 q112 q185 n_J2_init ⟨by decide, by decide⟩ (Nat.le_of_ble_eq_true rfl) dX18_init_9) (zv_V ?_) (fun q => zx_thr x (fun z hz => (htab z hz).elim) q)
  refine z_setF (pc := 12) (v := zP v5) x in_X18 tyX18 tyX18_ok nmX18 (ci := 24) rfl (k := 1) (by decide) q1074 (fun _ h => h) rfl hnm rfl (zfitR rfl _).1 (zfitR rfl _).2 dX18_init_12 ?_
  refine z_aload_n (pc := 15) x 0 dX18_init_15 rfl rfl ?_
  refine z_new (pc := 16) x in_X4 tyX4 tyX4_ok q1071 q224 q114 (ci := 32) rfl (by decide) (by decide +kernel) dX18_init_16 fun v16 => ?_
  refine z_dup (pc := 19) x dX18_init_19 rfl ?_
  refine z_call (pc := 20) (z_canI (pc := 20) (ret := none) (As := []) (st := [zP v16, zP a0]) x (fun b => m_X4_init hl (some b)) q1072 rfl q226 q114 q227 n_X4_init ⟨by decide, by decide⟩ (Nat.le_of_ble_eq_true rfl) dX18_init_20) (zv_V ?_) (fun q => zx_thr x (fun z hz => (htab z hz).elim) q)
  refine z_setF (pc := 23) (v := zP v16) x in_X18 tyX18 tyX18_ok nmX18 (ci := 24) rfl (k := 2) (by decide) q1075 (fun _ h => h) rfl hnm rfl (zfitR rfl _).1 (zfitR rfl _).2 dX18_init_23 ?_
  refine z_aload_n (pc := 26) x 0 dX18_init_26 rfl rfl ?_
  refine z_aload_n (pc := 27) x 1 dX18_init_27 rfl rfl ?_
  refine z_setF (pc := 28) (v := zP a1) x in_X18 tyX18 tyX18_ok nmX18 (ci := 24) rfl (k := 0) (by decide) q1073 (fun _ h => h) rfl hnm rfl (zfitR rfl _).1 (zfitR rfl _).2 dX18_init_28 ?_
  exact z_vret (pc := 31) x hret dX18_init_31
/-! X17_isSameAs -/
def s_X17_isSameAs (E : zE) (a0 : Option Nat) (a1 : Int32) (a2 : Int32) (a3 : Int32) : zM := zGetI a0 23 0 (fun v1 => if v1 = a1 then (zGetI a0 23 1 (fun v9 => if v9 = a2 then (zGetI a0 23 2 (fun v17 => if v17 = a3 then (zRetN .boolean (1 : Int32)) else (zRetN .boolean (0 : Int32)))) else (zRetN .boolean (0 : Int32)))) else (zRetN .boolean (0 : Int32)))
theorem m_X17_isSameAs {l : Launch} {E : zE} {D : va_G} {tA : Nat → ClassId} (hl : l.stackTraces = false) (a0 : Option Nat) (a1 : Int32) (a2 : Int32) (a3 : Int32) : zMet l E D tA yX17_isSameAs (ws_ yX17_isSameAs cX17_isSameAs 4 (Option.some Jvm.ClassFile.FieldType.boolean)) 9 (s_X17_isSameAs E a0 a1 a2 a3) [zP a0, zI a1, zI a2, zI a3] := by
  refine z_met hl (by decide +kernel) (by rw [zSl_len]; exact (Nat.le_of_ble_eq_true rfl)) fun p e R s m args below meth c k0 x hret hnm htab => ?_
  refine z_lv [(0, zP a0), (1, zI a1), (2, zI a2), (3, zI a3)] rfl ?_
  unfold s_X17_isSameAs
  refine z_aload_n (pc := 0) x 0 dX17_isSameAs_0 rfl rfl ?_
  refine z_get (pc := 1) (fun _ _ h => zAsI_eq h) x in_X17 (ci := 23) rfl (k := 0) (by decide) q1115 (fun _ h => h) dX17_isSameAs_1 fun v1 => ?_
  refine z_iload_n (pc := 4) x 1 dX17_isSameAs_4 rfl rfl ?_
  refine z_icmp_ne (pc := 5) (tgt := 28) x dX17_isSameAs_5 rfl (fun _ => ?_) (fun _ => ?_)
  · refine z_aload_n (pc := 8) x 0 dX17_isSameAs_8 rfl rfl ?_
    refine z_get (pc := 9) (fun _ _ h => zAsI_eq h) x in_X17 (ci := 23) rfl (k := 1) (by decide) q1118 (fun _ h => h) dX17_isSameAs_9 fun v9 => ?_
    refine z_iload_n (pc := 12) x 2 dX17_isSameAs_12 rfl rfl ?_
    refine z_icmp_ne (pc := 13) (tgt := 28) x dX17_isSameAs_13 rfl (fun _ => ?_) (fun _ => ?_)
    · refine z_aload_n (pc := 16) x 0 dX17_isSameAs_16 rfl rfl ?_
      refine z_get (pc := 17) (fun _ _ h => zAsI_eq h) x in_X17 (ci := 23) rfl (k := 2) (by decide) q1120 (fun _ h => h) dX17_isSameAs_17 fun v17 => ?_
      refine z_iload_n (pc := 20) x 3 dX17_isSameAs_20 rfl rfl ?_
      refine z_icmp_ne (pc := 21) (tgt := 28) x dX17_isSameAs_21 rfl (fun _ => ?_) (fun _ => ?_)
      · refine z_iconst (pc := 24) x (v := (1 : Int32)) dX17_isSameAs_24 rfl ?_
        refine z_goto (pc := 25) (tgt := 29) x dX17_isSameAs_25 rfl ?_
        exact z_zret (pc := 29) x hret dX17_isSameAs_29
      · refine z_iconst (pc := 28) x (v := (0 : Int32)) dX17_isSameAs_28 rfl ?_
        exact z_zret (pc := 29) x hret dX17_isSameAs_29
    · refine z_iconst (pc := 28) x (v := (0 : Int32)) dX17_isSameAs_28 rfl ?_
      exact z_zret (pc := 29) x hret dX17_isSameAs_29
  · refine z_iconst (pc := 28) x (v := (0 : Int32)) dX17_isSameAs_28 rfl ?_
    exact z_zret (pc := 29) x hret dX17_isSameAs_29
/-! X18_goal -/
def s_X18_goal_127 (E : zE) (k82 : Option Nat → Int32 → Option Nat → Int32 → zM) (a0 : Option Nat) (a1 : Int32) (a4 : Option Nat) (a5 : Int32) : zM := k82 a0 a1 a4 (a5 + (1 : Int32))
theorem w_X18_goal_127 (x : zCx p l R s m args meth c E D tA cX18_goal 7 yX18_goal.cls 15) (hl : l.stackTraces = false) (hret : meth.sig.returnType = (Option.some (Jvm.ClassFile.FieldType.object "BrambleLogic$Goal"))) (hnm : meth.name = yX18_goal.name) (htab : ∀ z ∈ c.exceptionTable.toList, False) {k82 : Option Nat → Int32 → Option Nat → Int32 → zM} (h82 : ∀ (a0 : Option Nat) (a1 : Int32) (a4 : Option Nat) (a5 : Int32) , zW p l e R s m args below meth c E D tA 7 k0 (k82 a0 a1 a4 a5) [(0, zP a0), (1, zI a1), (4, zP a4), (5, zI a5)] 82 []) (a0 : Option Nat) (a1 : Int32) (a4 : Option Nat) (a5 : Int32) : zW p l e R s m args below meth c E D tA 7 k0 (s_X18_goal_127 E k82 a0 a1 a4 a5) [(0, zP a0), (1, zI a1), (4, zP a4), (5, zI a5)] 127 [] := by
  unfold s_X18_goal_127
  refine z_iinc (pc := 127) (lv' := [(5, zI (a5 + (1 : Int32))), (0, zP a0), (1, zI a1), (4, zP a4)]) x (v2 := (a5 + (1 : Int32))) 3 dX18_goal_127 rfl rfl (Nat.le_of_ble_eq_true rfl) rfl ?_
  refine z_goto (pc := 130) (tgt := 82) x dX18_goal_130 rfl ?_
  exact z_sub [1, 2, 3, 0] rfl (h82 a0 a1 a4 (a5 + (1 : Int32)))
def s_X18_goal_82 (E : zE) : Nat → Option Nat → Int32 → Option Nat → Int32 → zM
  | 0, _, _, _, _ => zFail
  | n + 1, a0, a1, a4, a5 => if (100 : Int32) ≤ a5 then (zRet (some (va_rf a4))) else (zGetR a0 24 0 (fun v90 => zGetR v90 26 0 (fun v93 => zC (zRv v93 [(32, fun b => s_X4_has E (some b) a1 a5)]) zThr (zKI (fun v99 => if v99 = 0 then (s_X18_goal_127 E (s_X18_goal_82 E n) a0 a1 a4 a5) else (zC (zRv a4 [(23, fun b => s_X17_fits E (some b) a5)]) zThr (zKI (fun v109 => if v109 = 0 then (s_X18_goal_127 E (s_X18_goal_82 E n) a0 a1 a4 a5) else (zGetR a4 23 3 (fun v117 => zC (zRv v117 [(33, fun b => s_X5_add E (some b) a5)]) zThr (zKI (fun v122 => s_X18_goal_127 E (s_X18_goal_82 E n) a0 a1 a4 a5))))))))))))
theorem w_X18_goal_82 (x : zCx p l R s m args meth c E D tA cX18_goal 7 yX18_goal.cls 15) (hl : l.stackTraces = false) (hret : meth.sig.returnType = (Option.some (Jvm.ClassFile.FieldType.object "BrambleLogic$Goal"))) (hnm : meth.name = yX18_goal.name) (htab : ∀ z ∈ c.exceptionTable.toList, False) : ∀ (n : Nat) (a0 : Option Nat) (a1 : Int32) (a4 : Option Nat) (a5 : Int32), zW p l e R s m args below meth c E D tA 7 k0 (s_X18_goal_82 E n a0 a1 a4 a5) [(0, zP a0), (1, zI a1), (4, zP a4), (5, zI a5)] 82 [] := by
  intro n
  induction n with
  | zero => intro a0 a1 a4 a5; exact z_fail
  | succ n h82 =>
    intro a0 a1 a4 a5
    rw [s_X18_goal_82]
    refine z_iload (pc := 82) x 3 dX18_goal_82 rfl ?_
    refine z_bipush (pc := 84) x (v := (100 : Int32)) dX18_goal_84 rfl ?_
    refine z_icmp_ge (pc := 86) (tgt := 133) x dX18_goal_86 rfl (fun _ => ?_) (fun _ => ?_)
    · refine z_aload (pc := 133) x 2 dX18_goal_133 rfl ?_
      exact z_aret (pc := 135) x hret (Or.inl ⟨_, rfl⟩) dX18_goal_135
    · refine z_aload_n (pc := 89) x 0 dX18_goal_89 rfl rfl ?_
      refine z_get (pc := 90) (fun _ _ h => zAsR_eq h) x in_X18 (ci := 24) rfl (k := 0) (by decide) q1073 (fun _ h => h) dX18_goal_90 fun v90 => ?_
      refine z_getN (pc := 93) (fun _ _ h => zAsR_eq h) x in_X2 (ci := 26) rfl (k := 0) (by decide) q250 (fun _ h => h) dX18_goal_93 fun v93 => ?_
      refine z_iload_n (pc := 96) x 1 dX18_goal_96 rfl rfl ?_
      refine z_iload (pc := 97) x 3 dX18_goal_97 rfl ?_
      refine z_call (pc := 99) (z_canV (pc := 99) (As := [zI a1, zI a5]) (st := []) x (ci := 32) rfl (fun b => m_X4_has hl (some b) a1 a5) q1135 q814 (x.2.2.2.2.1 _ q815) q114 q816 n_X4_has ⟨by decide, by decide⟩ (Nat.le_of_ble_eq_true rfl) dX18_goal_99) (zv_I fun v99 => ?_) (fun q => zx_thr x (fun z hz => (htab z hz).elim) q)
      refine z_if_eq (pc := 102) (tgt := 127) x dX18_goal_102 rfl (fun _ => ?_) (fun _ => ?_)
      · exact z_sub [0, 1, 2, 3] rfl (w_X18_goal_127 x hl hret hnm htab h82 a0 a1 a4 a5)
      · refine z_aload (pc := 105) x 2 dX18_goal_105 rfl ?_
        refine z_iload (pc := 107) x 3 dX18_goal_107 rfl ?_
        refine z_call (pc := 109) (z_canV (pc := 109) (As := [zI a5]) (st := []) x (ci := 23) rfl (fun b => m_X17_fits hl (some b) a5) q1136 q1137 (x.2.2.2.2.1 _ q1138) q153 q1139 n_X17_fits ⟨by decide, by decide⟩ (Nat.le_of_ble_eq_true rfl) dX18_goal_109) (zv_I fun v109 => ?_) (fun q => zx_thr x (fun z hz => (htab z hz).elim) q)
        refine z_if_eq (pc := 112) (tgt := 127) x dX18_goal_112 rfl (fun _ => ?_) (fun _ => ?_)
        · exact z_sub [0, 1, 2, 3] rfl (w_X18_goal_127 x hl hret hnm htab h82 a0 a1 a4 a5)
        · refine z_aload (pc := 115) x 2 dX18_goal_115 rfl ?_
          refine z_getN (pc := 117) (fun _ _ h => zAsR_eq h) x in_X17 (ci := 23) rfl (k := 3) (by decide) q1123 (fun _ h => h) dX18_goal_117 fun v117 => ?_
          refine z_iload (pc := 120) x 3 dX18_goal_120 rfl ?_
          refine z_call (pc := 122) (z_canV (pc := 122) (As := [zI a5]) (st := []) x (ci := 33) rfl (fun b => m_X5_add hl (some b) a5) q1141 q838 (x.2.2.2.2.1 _ q839) q115 q840 n_X5_add ⟨by decide, by decide⟩ (Nat.le_of_ble_eq_true rfl) dX18_goal_122) (zv_I fun v122 => ?_) (fun q => zx_thr x (fun z hz => (htab z hz).elim) q)
          refine z_istore (pc := 125) (lv' := [(6, zI v122), (0, zP a0), (1, zI a1), (4, zP a4), (5, zI a5)]) x dX18_goal_125 (Nat.le_of_ble_eq_true rfl) rfl ?_
          exact z_sub [1, 2, 3, 4] rfl (w_X18_goal_127 x hl hret hnm htab h82 a0 a1 a4 a5)
def s_X18_goal_11 (E : zE) : Nat → Option Nat → Int32 → Int32 → Int32 → Option Nat → zM
  | 0, _, _, _, _, _ => zFail
  | n + 1, a0, a1, a2, a3, a4 => zC (zRv a4 [(11, fun b => s_J22_hasNext E (some b))]) zThr (zKI (fun v13 => if v13 = 0 then (zNew 23 4 [.int 0, .int 0, .int 0, .null] (fun v50 => zC (zSp v50 (fun b => s_X17_init E (some b) a1 a2 a3)) zThr (zKV (zGetR a0 24 1 (fun v63 => zC (zRv v63 [(10, fun b => s_J2_add E (some b) v50)]) zThr (zKI (fun v68 => zSetN E .boolean a0 24 4 (1 : Int32) (s_X18_goal_82 E zN a0 a1 v50 (0 : Int32))))))))) else (zC (zRv a4 [(11, fun b => s_J22_next E (some b))]) zThr (zKR (fun v23 => zCsS 23 v23 (zC (zRv v23 [(23, fun b => s_X17_isSameAs E (some b) a1 a2 a3)]) zThr (zKI (fun v38 => if v38 = 0 then ((s_X18_goal_11 E n) a0 a1 a2 a3 a4) else (zRet (some (va_rf v23)))))))))))
theorem w_X18_goal_11 (x : zCx p l R s m args meth c E D tA cX18_goal 7 yX18_goal.cls 15) (hl : l.stackTraces = false) (hret : meth.sig.returnType = (Option.some (Jvm.ClassFile.FieldType.object "BrambleLogic$Goal"))) (hnm : meth.name = yX18_goal.name) (htab : ∀ z ∈ c.exceptionTable.toList, False) : ∀ (n : Nat) (a0 : Option Nat) (a1 : Int32) (a2 : Int32) (a3 : Int32) (a4 : Option Nat), zW p l e R s m args below meth c E D tA 7 k0 (s_X18_goal_11 E n a0 a1 a2 a3 a4) [(0, zP a0), (1, zI a1), (2, zI a2), (3, zI a3), (4, zP a4)] 11 [] := by
  intro n
  induction n with
  | zero => intro a0 a1 a2 a3 a4; exact z_fail
  | succ n h11 =>
    intro a0 a1 a2 a3 a4
    rw [s_X18_goal_11]
    refine z_aload (pc := 11) x 4 dX18_goal_11 rfl ?_
    refine z_call (pc := 13) (z_canIF (pc := 13) (As := []) (st := []) (x9 := ⟨"java/util/Iterator", "hasNext", "()Z"⟩) x (ci := 11) rfl (fun b => m_J22_hasNext hl (some b)) q1100 q413 q412 (by decide) q415 q417 q418 q416 q414 q139 q419 nx_java_util_Iterator_hasNext___Z ⟨by decide, by decide⟩ (Nat.le_of_ble_eq_true rfl) dX18_goal_13) (zv_I fun v13 => ?_) (fun q => zx_thr x (fun z hz => (htab z hz).elim) q)
    refine z_if_eq (pc := 18) (tgt := 50) x dX18_goal_18 rfl (fun _ => ?_) (fun _ => ?_)
    · refine z_new (pc := 50) x in_X17 tyX17 tyX17_ok q1103 q1108 q153 (ci := 23) rfl (by decide) (by decide +kernel) dX18_goal_50 fun v50 => ?_
      refine z_dup (pc := 53) x dX18_goal_53 rfl ?_
      refine z_iload_n (pc := 54) x 1 dX18_goal_54 rfl rfl ?_
      refine z_iload_n (pc := 55) x 2 dX18_goal_55 rfl rfl ?_
      refine z_iload_n (pc := 56) x 3 dX18_goal_56 rfl rfl ?_
      refine z_call (pc := 57) (z_canI (pc := 57) (ret := none) (As := [zI a1, zI a2, zI a3]) (st := [zP v50]) x (fun b => m_X17_init hl (some b) a1 a2 a3) q1109 rfl q1110 q153 q1111 n_X17_init ⟨by decide, by decide⟩ (Nat.le_of_ble_eq_true rfl) dX18_goal_57) (zv_V ?_) (fun q => zx_thr x (fun z hz => (htab z hz).elim) q)
      refine z_astore (pc := 60) (lv' := [(4, zP v50), (0, zP a0), (1, zI a1), (2, zI a2), (3, zI a3)]) x dX18_goal_60 (Nat.le_of_ble_eq_true rfl) rfl ?_
      refine z_aload_n (pc := 62) x 1 dX18_goal_62 rfl rfl ?_
      refine z_get (pc := 63) (fun _ _ h => zAsR_eq h) x in_X18 (ci := 24) rfl (k := 1) (by decide) q1074 (fun _ h => h) dX18_goal_63 fun v63 => ?_
      refine z_aload (pc := 66) x 0 dX18_goal_66 rfl ?_
      refine z_call (pc := 68) (z_canIF (pc := 68) (As := [zP v50]) (st := []) (x9 := ⟨"java/util/List", "add", "(Ljava/lang/Object;)Z"⟩) x (ci := 10) rfl (fun b => m_J2_add hl (some b) v50) q1134 q660 q659 (by decide) q661 q663 q664 q662 q384 q112 q665 nx_java_util_List_add__Ljava_lang_Object__Z ⟨by decide, by decide⟩ (Nat.le_of_ble_eq_true rfl) dX18_goal_68) (zv_I fun v68 => ?_) (fun q => zx_thr x (fun z hz => (htab z hz).elim) q)
      refine z_pop (pc := 73) x dX18_goal_73 rfl ?_
      refine z_aload_n (pc := 74) x 1 dX18_goal_74 rfl rfl ?_
      refine z_iconst (pc := 75) x (v := (1 : Int32)) dX18_goal_75 rfl ?_
      refine z_set_small fun hn hf => ?_
      refine z_set (pc := 76) (v := zI (1 : Int32)) x in_X18 tyX18 tyX18_ok nmX18 (ci := 24) rfl (k := 4) (by decide) q1077 (fun _ h => h) rfl hn hf dX18_goal_76 ?_
      refine z_iconst (pc := 79) x (v := (0 : Int32)) dX18_goal_79 rfl ?_
      refine z_istore (pc := 80) (lv' := [(5, zI (0 : Int32)), (4, zP v50), (0, zP a0), (1, zI a1), (2, zI a2), (3, zI a3)]) x dX18_goal_80 (Nat.le_of_ble_eq_true rfl) rfl ?_
      exact z_sub [2, 3, 1, 0] rfl (w_X18_goal_82 x hl hret hnm htab zN a0 a1 v50 (0 : Int32))
    · refine z_aload (pc := 21) x 4 dX18_goal_21 rfl ?_
      refine z_call (pc := 23) (z_canIF (pc := 23) (As := []) (st := []) (x9 := ⟨"java/util/Iterator", "next", "()Ljava/lang/Object;"⟩) x (ci := 11) rfl (fun b => m_J22_next hl (some b)) q1102 q423 q422 (by decide) q424 q426 q427 q425 q414 q139 q428 nx_java_util_Iterator_next___Ljava_lang_Object_ ⟨by decide, by decide⟩ (Nat.le_of_ble_eq_true rfl) dX18_goal_23) (zv_R fun v23 => ?_) (fun q => zx_thr x (fun z hz => (htab z hz).elim) q)
      refine z_csS (pc := 28) x (ci := 23) rfl q1103 dX18_goal_28 ?_
      refine z_astore (pc := 31) (lv' := [(5, zP v23), (0, zP a0), (1, zI a1), (2, zI a2), (3, zI a3), (4, zP a4)]) x dX18_goal_31 (Nat.le_of_ble_eq_true rfl) rfl ?_
      refine z_aload (pc := 33) x 0 dX18_goal_33 rfl ?_
      refine z_iload_n (pc := 35) x 2 dX18_goal_35 rfl rfl ?_
      refine z_iload_n (pc := 36) x 3 dX18_goal_36 rfl rfl ?_
      refine z_iload_n (pc := 37) x 4 dX18_goal_37 rfl rfl ?_
      refine z_call (pc := 38) (z_canV (pc := 38) (As := [zI a1, zI a2, zI a3]) (st := []) x (ci := 23) rfl (fun b => m_X17_isSameAs hl (some b) a1 a2 a3) q1104 q1105 (x.2.2.2.2.1 _ q1106) q153 q1107 n_X17_isSameAs ⟨by decide, by decide⟩ (Nat.le_of_ble_eq_true rfl) dX18_goal_38) (zv_I fun v38 => ?_) (fun q => zx_thr x (fun z hz => (htab z hz).elim) q)
      refine z_if_eq (pc := 41) (tgt := 47) x dX18_goal_41 rfl (fun _ => ?_) (fun _ => ?_)
      · refine z_goto (pc := 47) (tgt := 11) x dX18_goal_47 rfl ?_
        exact z_sub [1, 2, 3, 4, 5] rfl (h11 a0 a1 a2 a3 a4)
      · refine z_aload (pc := 44) x 0 dX18_goal_44 rfl ?_
        exact z_aret (pc := 46) x hret (Or.inl ⟨_, rfl⟩) dX18_goal_46
def s_X18_goal (E : zE) (a0 : Option Nat) (a1 : Int32) (a2 : Int32) (a3 : Int32) : zM := zGetR a0 24 1 (fun v1 => zC (zRv v1 [(10, fun b => s_J2_iterator E (some b))]) zThr (zKR (fun v4 => s_X18_goal_11 E zN a0 a1 a2 a3 v4)))
theorem m_X18_goal {l : Launch} {E : zE} {D : va_G} {tA : Nat → ClassId} (hl : l.stackTraces = false) (a0 : Option Nat) (a1 : Int32) (a2 : Int32) (a3 : Int32) : zMet l E D tA yX18_goal (ws_ yX18_goal cX18_goal 7 (Option.some (Jvm.ClassFile.FieldType.object "BrambleLogic$Goal"))) 15 (s_X18_goal E a0 a1 a2 a3) [zP a0, zI a1, zI a2, zI a3] := by
  refine z_met hl (by decide +kernel) (by rw [zSl_len]; exact (Nat.le_of_ble_eq_true rfl)) fun p e R s m args below meth c k0 x hret hnm htab => ?_
  refine z_lv [(0, zP a0), (1, zI a1), (2, zI a2), (3, zI a3)] rfl ?_
  unfold s_X18_goal
  refine z_aload_n (pc := 0) x 0 dX18_goal_0 rfl rfl ?_
  refine z_get (pc := 1) (fun _ _ h => zAsR_eq h) x in_X18 (ci := 24) rfl (k := 1) (by decide) q1074 (fun _ h => h) dX18_goal_1 fun v1 => ?_
  refine z_call (pc := 4) (z_canIF (pc := 4) (As := []) (st := []) (x9 := ⟨"java/util/List", "iterator", "()Ljava/util/Iterator;"⟩) x (ci := 10) rfl (fun b => m_J2_iterator hl (some b)) q1098 q383 q382 (by decide) q385 q387 q388 q386 q384 q112 q389 nx_java_util_List_iterator___Ljava_util_Iterator_ ⟨by decide, by decide⟩ (Nat.le_of_ble_eq_true rfl) dX18_goal_4) (zv_R fun v4 => ?_) (fun q => zx_thr x (fun z hz => (htab z hz).elim) q)
  refine z_astore (pc := 9) (lv' := [(4, zP v4), (0, zP a0), (1, zI a1), (2, zI a2), (3, zI a3)]) x dX18_goal_9 (Nat.le_of_ble_eq_true rfl) rfl ?_
  exact z_sub [1, 2, 3, 4, 0] rfl (w_X18_goal_11 x hl hret hnm htab zN a0 a1 a2 a3 v4)
/-! X18_bindHead -/
def s_X18_bindHead_28 (E : zE) (a0 : Option Nat) (a1 : Option Nat) (a2 : Option Nat) (b0 : Int32) : zM := if b0 = 0 then (zRetN .boolean (0 : Int32)) else (zGetI a1 23 2 (fun v34 => if v34 = (-1 : Int32) then (zRetN .boolean (1 : Int32)) else (zGetI a0 37 2 (fun v42 => zGetI a1 23 2 (fun v46 => zC (s_X9_bind E v42 v46 a2) zThr (zKI (fun v50 => if v50 = 0 then (zRetN .boolean (0 : Int32)) else (zRetN .boolean (1 : Int32)))))))))
theorem w_X18_bindHead_28 (x : zCx p l R s m args meth c E D tA cX18_bindHead 4 yX18_bindHead.cls 11) (hl : l.stackTraces = false) (hret : meth.sig.returnType = (Option.some Jvm.ClassFile.FieldType.boolean)) (hnm : meth.name = yX18_bindHead.name) (htab : ∀ z ∈ c.exceptionTable.toList, False) (a0 : Option Nat) (a1 : Option Nat) (a2 : Option Nat) (b0 : Int32) : zW p l e R s m args below meth c E D tA 4 k0 (s_X18_bindHead_28 E a0 a1 a2 b0) [(0, zP a0), (1, zP a1), (2, zP a2)] 28 [zI b0] := by
  unfold s_X18_bindHead_28
  refine z_istore_n (pc := 28) (lv' := [(3, zI b0), (0, zP a0), (1, zP a1), (2, zP a2)]) x dX18_bindHead_28 rfl (Nat.le_of_ble_eq_true rfl) rfl ?_
  refine z_iload_n (pc := 29) x 0 dX18_bindHead_29 rfl rfl ?_
  refine z_if_eq (pc := 30) (tgt := 60) x dX18_bindHead_30 rfl (fun _ => ?_) (fun _ => ?_)
  · refine z_iconst (pc := 60) x (v := (0 : Int32)) dX18_bindHead_60 rfl ?_
    exact z_zret (pc := 61) x hret dX18_bindHead_61
  · refine z_aload_n (pc := 33) x 2 dX18_bindHead_33 rfl rfl ?_
    refine z_getN (pc := 34) (fun _ _ h => zAsI_eq h) x in_X17 (ci := 23) rfl (k := 2) (by decide) q1121 (fun _ h => h) dX18_bindHead_34 fun v34 => ?_
    refine z_iconst (pc := 37) x (v := (-1 : Int32)) dX18_bindHead_37 rfl ?_
    refine z_icmp_eq (pc := 38) (tgt := 56) x dX18_bindHead_38 rfl (fun _ => ?_) (fun _ => ?_)
    · refine z_iconst (pc := 56) x (v := (1 : Int32)) dX18_bindHead_56 rfl ?_
      refine z_goto (pc := 57) (tgt := 61) x dX18_bindHead_57 rfl ?_
      exact z_zret (pc := 61) x hret dX18_bindHead_61
    · refine z_aload_n (pc := 41) x 1 dX18_bindHead_41 rfl rfl ?_
      refine z_getN (pc := 42) (fun _ _ h => zAsI_eq h) x in_X9 (ci := 37) rfl (k := 2) (by decide) q2372 (fun _ h => h) dX18_bindHead_42 fun v42 => ?_
      refine z_aload_n (pc := 45) x 2 dX18_bindHead_45 rfl rfl ?_
      refine z_getN (pc := 46) (fun _ _ h => zAsI_eq h) x in_X17 (ci := 23) rfl (k := 2) (by decide) q1121 (fun _ h => h) dX18_bindHead_46 fun v46 => ?_
      refine z_aload_n (pc := 49) x 3 dX18_bindHead_49 rfl rfl ?_
      refine z_call (pc := 50) (z_canSN (pc := 50) (As := [zI v42, zI v46, zP a2]) (st := []) x (m_X9_bind hl v42 v46 a2) q1155 q868 q143 q869 n_X9_bind ⟨by decide, by decide⟩ (Nat.le_of_ble_eq_true rfl) dX18_bindHead_50) (zv_I fun v50 => ?_) (fun q => zx_thr x (fun z hz => (htab z hz).elim) q)
      refine z_if_eq (pc := 53) (tgt := 60) x dX18_bindHead_53 rfl (fun _ => ?_) (fun _ => ?_)
      · refine z_iconst (pc := 60) x (v := (0 : Int32)) dX18_bindHead_60 rfl ?_
        exact z_zret (pc := 61) x hret dX18_bindHead_61
      · refine z_iconst (pc := 56) x (v := (1 : Int32)) dX18_bindHead_56 rfl ?_
        refine z_goto (pc := 57) (tgt := 61) x dX18_bindHead_57 rfl ?_
        exact z_zret (pc := 61) x hret dX18_bindHead_61
def s_X18_bindHead_23 (E : zE) (a0 : Option Nat) (a1 : Option Nat) (a2 : Option Nat) : zM := s_X18_bindHead_28 E a0 a1 a2 (1 : Int32)
theorem w_X18_bindHead_23 (x : zCx p l R s m args meth c E D tA cX18_bindHead 4 yX18_bindHead.cls 11) (hl : l.stackTraces = false) (hret : meth.sig.returnType = (Option.some Jvm.ClassFile.FieldType.boolean)) (hnm : meth.name = yX18_bindHead.name) (htab : ∀ z ∈ c.exceptionTable.toList, False) (a0 : Option Nat) (a1 : Option Nat) (a2 : Option Nat) : zW p l e R s m args below meth c E D tA 4 k0 (s_X18_bindHead_23 E a0 a1 a2) [(0, zP a0), (1, zP a1), (2, zP a2)] 23 [] := by
  unfold s_X18_bindHead_23
  refine z_iconst (pc := 23) x (v := (1 : Int32)) dX18_bindHead_23 rfl ?_
  refine z_goto (pc := 24) (tgt := 28) x dX18_bindHead_24 rfl ?_
  exact z_sub [0, 1, 2] rfl (w_X18_bindHead_28 x hl hret hnm htab a0 a1 a2 (1 : Int32))
def s_X18_bindHead (E : zE) (a0 : Option Nat) (a1 : Option Nat) (a2 : Option Nat) : zM := zGetI a1 23 1 (fun v1 => if v1 = (-1 : Int32) then (s_X18_bindHead_23 E a0 a1 a2) else (zGetI a0 37 1 (fun v9 => zGetI a1 23 1 (fun v13 => zC (s_X9_bind E v9 v13 a2) zThr (zKI (fun v17 => if v17 = 0 then (s_X18_bindHead_28 E a0 a1 a2 (0 : Int32)) else (s_X18_bindHead_23 E a0 a1 a2)))))))
theorem m_X18_bindHead {l : Launch} {E : zE} {D : va_G} {tA : Nat → ClassId} (hl : l.stackTraces = false) (a0 : Option Nat) (a1 : Option Nat) (a2 : Option Nat) : zMet l E D tA yX18_bindHead (ws_ yX18_bindHead cX18_bindHead 4 (Option.some Jvm.ClassFile.FieldType.boolean)) 11 (s_X18_bindHead E a0 a1 a2) [zP a0, zP a1, zP a2] := by
  refine z_met hl (by decide +kernel) (by rw [zSl_len]; exact (Nat.le_of_ble_eq_true rfl)) fun p e R s m args below meth c k0 x hret hnm htab => ?_
  refine z_lv [(0, zP a0), (1, zP a1), (2, zP a2)] rfl ?_
  unfold s_X18_bindHead
  refine z_aload_n (pc := 0) x 1 dX18_bindHead_0 rfl rfl ?_
  refine z_getN (pc := 1) (fun _ _ h => zAsI_eq h) x in_X17 (ci := 23) rfl (k := 1) (by decide) q1119 (fun _ h => h) dX18_bindHead_1 fun v1 => ?_
  refine z_iconst (pc := 4) x (v := (-1 : Int32)) dX18_bindHead_4 rfl ?_
  refine z_icmp_eq (pc := 5) (tgt := 23) x dX18_bindHead_5 rfl (fun _ => ?_) (fun _ => ?_)
  · exact z_sub [0, 1, 2] rfl (w_X18_bindHead_23 x hl hret hnm htab a0 a1 a2)
  · refine z_aload_n (pc := 8) x 0 dX18_bindHead_8 rfl rfl ?_
    refine z_getN (pc := 9) (fun _ _ h => zAsI_eq h) x in_X9 (ci := 37) rfl (k := 1) (by decide) q2370 (fun _ h => h) dX18_bindHead_9 fun v9 => ?_
    refine z_aload_n (pc := 12) x 1 dX18_bindHead_12 rfl rfl ?_
    refine z_getN (pc := 13) (fun _ _ h => zAsI_eq h) x in_X17 (ci := 23) rfl (k := 1) (by decide) q1119 (fun _ h => h) dX18_bindHead_13 fun v13 => ?_
    refine z_aload_n (pc := 16) x 2 dX18_bindHead_16 rfl rfl ?_
    refine z_call (pc := 17) (z_canSN (pc := 17) (As := [zI v9, zI v13, zP a2]) (st := []) x (m_X9_bind hl v9 v13 a2) q1155 q868 q143 q869 n_X9_bind ⟨by decide, by decide⟩ (Nat.le_of_ble_eq_true rfl) dX18_bindHead_17) (zv_I fun v17 => ?_) (fun q => zx_thr x (fun z hz => (htab z hz).elim) q)
    refine z_if_eq (pc := 20) (tgt := 27) x dX18_bindHead_20 rfl (fun _ => ?_) (fun _ => ?_)
    · refine z_iconst (pc := 27) x (v := (0 : Int32)) dX18_bindHead_27 rfl ?_
      exact z_sub [0, 1, 2] rfl (w_X18_bindHead_28 x hl hret hnm htab a0 a1 a2 (0 : Int32))
    · exact z_sub [0, 1, 2] rfl (w_X18_bindHead_23 x hl hret hnm htab a0 a1 a2)
/-! X18_solveNegated -/
def s_X18_solveNegated_68 (E : zE) (r_X18_solve : Option Nat → Int32 → Int32 → Int32 → zM) (k43 : Option Nat → Int32 → Option Nat → Int32 → zM) (a0 : Option Nat) (a1 : Int32) (a2 : Option Nat) (a3 : Int32) : zM := k43 a0 a1 a2 (a3 + (1 : Int32))
theorem w_X18_solveNegated_68 {fr_X18_solve : Nat} {r_X18_solve : Option Nat → Int32 → Int32 → Int32 → zM} (x : zCx p l R s m args meth c E D tA cX18_solveNegated 5 yX18_solveNegated.cls (fr_X18_solve + 1)) (hl : l.stackTraces = false) (hret : meth.sig.returnType = (Option.none : Option Jvm.ClassFile.FieldType)) (hnm : meth.name = yX18_solveNegated.name) (htab : ∀ z ∈ c.exceptionTable.toList, False) (hr_X18_solve : ∀ (a0 : Option Nat) (a1 : Int32) (a2 : Int32) (a3 : Int32), zMet l E D tA yX18_solve (ws_ yX18_solve cX18_solve 6 (Option.some (Jvm.ClassFile.FieldType.object "BrambleLogic$Codes"))) fr_X18_solve (r_X18_solve a0 a1 a2 a3) [zP a0, zI a1, zI a2, zI a3]) (hB_X18_solve : 200 ≤ fr_X18_solve) {k43 : Option Nat → Int32 → Option Nat → Int32 → zM} (h43 : ∀ (a0 : Option Nat) (a1 : Int32) (a2 : Option Nat) (a3 : Int32) , zW p l e R s m args below meth c E D tA 5 k0 (k43 a0 a1 a2 a3) [(0, zP a0), (1, zI a1), (2, zP a2), (3, zI a3)] 43 []) (a0 : Option Nat) (a1 : Int32) (a2 : Option Nat) (a3 : Int32) : zW p l e R s m args below meth c E D tA 5 k0 (s_X18_solveNegated_68 E r_X18_solve k43 a0 a1 a2 a3) [(0, zP a0), (1, zI a1), (2, zP a2), (3, zI a3)] 68 [] := by
  unfold s_X18_solveNegated_68
  refine z_iinc (pc := 68) (lv' := [(3, zI (a3 + (1 : Int32))), (0, zP a0), (1, zI a1), (2, zP a2)]) x (v2 := (a3 + (1 : Int32))) 3 dX18_solveNegated_68 rfl rfl (Nat.le_of_ble_eq_true rfl) rfl ?_
  refine z_goto (pc := 71) (tgt := 43) x dX18_solveNegated_71 rfl ?_
  exact z_sub [1, 2, 3, 0] rfl (h43 a0 a1 a2 (a3 + (1 : Int32)))
def s_X18_solveNegated_43 (E : zE) (r_X18_solve : Option Nat → Int32 → Int32 → Int32 → zM) : Nat → Option Nat → Int32 → Option Nat → Int32 → zM
  | 0, _, _, _, _ => zFail
  | n + 1, a0, a1, a2, a3 => if (100 : Int32) ≤ a3 then (zRet none) else (zC (zRv a2 [(33, fun b => s_X5_has E (some b) a3)]) zThr (zKI (fun v51 => if v51 = 0 then (s_X18_solveNegated_68 E r_X18_solve (s_X18_solveNegated_43 E r_X18_solve n) a0 a1 a2 a3) else (zGetR a0 24 2 (fun v58 => zC (zRv v58 [(32, fun b => s_X4_add E (some b) a1 a3)]) zThr (zKI (fun v63 => s_X18_solveNegated_68 E r_X18_solve (s_X18_solveNegated_43 E r_X18_solve n) a0 a1 a2 a3)))))))
theorem w_X18_solveNegated_43 {fr_X18_solve : Nat} {r_X18_solve : Option Nat → Int32 → Int32 → Int32 → zM} (x : zCx p l R s m args meth c E D tA cX18_solveNegated 5 yX18_solveNegated.cls (fr_X18_solve + 1)) (hl : l.stackTraces = false) (hret : meth.sig.returnType = (Option.none : Option Jvm.ClassFile.FieldType)) (hnm : meth.name = yX18_solveNegated.name) (htab : ∀ z ∈ c.exceptionTable.toList, False) (hr_X18_solve : ∀ (a0 : Option Nat) (a1 : Int32) (a2 : Int32) (a3 : Int32), zMet l E D tA yX18_solve (ws_ yX18_solve cX18_solve 6 (Option.some (Jvm.ClassFile.FieldType.object "BrambleLogic$Codes"))) fr_X18_solve (r_X18_solve a0 a1 a2 a3) [zP a0, zI a1, zI a2, zI a3]) (hB_X18_solve : 200 ≤ fr_X18_solve) : ∀ (n : Nat) (a0 : Option Nat) (a1 : Int32) (a2 : Option Nat) (a3 : Int32), zW p l e R s m args below meth c E D tA 5 k0 (s_X18_solveNegated_43 E r_X18_solve n a0 a1 a2 a3) [(0, zP a0), (1, zI a1), (2, zP a2), (3, zI a3)] 43 [] := by
  intro n
  induction n with
  | zero => intro a0 a1 a2 a3; exact z_fail
  | succ n h43 =>
    intro a0 a1 a2 a3
    rw [s_X18_solveNegated_43]
    refine z_iload_n (pc := 43) x 3 dX18_solveNegated_43 rfl rfl ?_
    refine z_bipush (pc := 44) x (v := (100 : Int32)) dX18_solveNegated_44 rfl ?_
    refine z_icmp_ge (pc := 46) (tgt := 74) x dX18_solveNegated_46 rfl (fun _ => ?_) (fun _ => ?_)
    · exact z_vret (pc := 74) x hret dX18_solveNegated_74
    · refine z_aload_n (pc := 49) x 2 dX18_solveNegated_49 rfl rfl ?_
      refine z_iload_n (pc := 50) x 3 dX18_solveNegated_50 rfl rfl ?_
      refine z_call (pc := 51) (z_canV (pc := 51) (As := [zI a3]) (st := []) x (ci := 33) rfl (fun b => m_X5_has hl (some b) a3) q1181 q818 (x.2.2.2.2.1 _ q819) q115 q820 n_X5_has ⟨by omega, by omega⟩ (Nat.le_of_ble_eq_true rfl) dX18_solveNegated_51) (zv_I fun v51 => ?_) (fun q => zx_thr x (fun z hz => (htab z hz).elim) q)
      refine z_if_eq (pc := 54) (tgt := 68) x dX18_solveNegated_54 rfl (fun _ => ?_) (fun _ => ?_)
      · exact z_sub [0, 1, 2, 3] rfl (w_X18_solveNegated_68 x hl hret hnm htab hr_X18_solve hB_X18_solve h43 a0 a1 a2 a3)
      · refine z_aload_n (pc := 57) x 0 dX18_solveNegated_57 rfl rfl ?_
        refine z_get (pc := 58) (fun _ _ h => zAsR_eq h) x in_X18 (ci := 24) rfl (k := 2) (by decide) q1075 (fun _ h => h) dX18_solveNegated_58 fun v58 => ?_
        refine z_iload_n (pc := 61) x 1 dX18_solveNegated_61 rfl rfl ?_
        refine z_iload_n (pc := 62) x 3 dX18_solveNegated_62 rfl rfl ?_
        refine z_call (pc := 63) (z_canV (pc := 63) (As := [zI a1, zI a3]) (st := []) x (ci := 32) rfl (fun b => m_X4_add hl (some b) a1 a3) q1182 q834 (x.2.2.2.2.1 _ q835) q114 q836 n_X4_add ⟨by omega, by omega⟩ (Nat.le_of_ble_eq_true rfl) dX18_solveNegated_63) (zv_I fun v63 => ?_) (fun q => zx_thr x (fun z hz => (htab z hz).elim) q)
        refine z_istore (pc := 66) (lv' := [(4, zI v63), (0, zP a0), (1, zI a1), (2, zP a2), (3, zI a3)]) x dX18_solveNegated_66 (Nat.le_of_ble_eq_true rfl) rfl ?_
        exact z_sub [1, 2, 3, 4] rfl (w_X18_solveNegated_68 x hl hret hnm htab hr_X18_solve hB_X18_solve h43 a0 a1 a2 a3)
def s_X18_solveNegated (E : zE) (r_X18_solve : Option Nat → Int32 → Int32 → Int32 → zM) (a0 : Option Nat) (a1 : Int32) : zM := zGetI a0 24 3 (fun v1 => if ((v1 >>> (a1 &&& 31)) &&& (1 : Int32)) = 0 then (zGetI a0 24 3 (fun v13 => zSet E a0 24 3 (zVal (zI (v13 ||| ((1 : Int32) <<< (a1 &&& 31))))) (zNew 24 5 [.null, .null, .null, .int 0, .int 0] (fun v23 => zGetR a0 24 0 (fun v28 => zC (zSp v23 (fun b => s_X18_init E (some b) v28)) zThr (zKV (zC (zRv v23 [(24, fun b => r_X18_solve (some b) a1 (-1 : Int32) (-1 : Int32))]) zThr (zKR (fun v37 => s_X18_solveNegated_43 E r_X18_solve zN a0 a1 v37 (0 : Int32)))))))))) else (zRet none))
theorem m_X18_solveNegated {l : Launch} {E : zE} {D : va_G} {tA : Nat → ClassId} (hl : l.stackTraces = false) {fr_X18_solve : Nat} {r_X18_solve : Option Nat → Int32 → Int32 → Int32 → zM} (hr_X18_solve : ∀ (a0 : Option Nat) (a1 : Int32) (a2 : Int32) (a3 : Int32), zMet l E D tA yX18_solve (ws_ yX18_solve cX18_solve 6 (Option.some (Jvm.ClassFile.FieldType.object "BrambleLogic$Codes"))) fr_X18_solve (r_X18_solve a0 a1 a2 a3) [zP a0, zI a1, zI a2, zI a3]) (hB_X18_solve : 200 ≤ fr_X18_solve) (a0 : Option Nat) (a1 : Int32) : zMet l E D tA yX18_solveNegated (ws_ yX18_solveNegated cX18_solveNegated 5 (Option.none : Option Jvm.ClassFile.FieldType)) (fr_X18_solve + 1) (s_X18_solveNegated E r_X18_solve a0 a1) [zP a0, zI a1] := by
  refine z_met hl (by decide +kernel) (by rw [zSl_len]; exact (Nat.le_of_ble_eq_true rfl)) fun p e R s m args below meth c k0 x hret hnm htab => ?_
  refine z_lv [(0, zP a0), (1, zI a1)] rfl ?_
  unfold s_X18_solveNegated
  refine z_aload_n (pc := 0) x 0 dX18_solveNegated_0 rfl rfl ?_
  refine z_get (pc := 1) (fun _ _ h => zAsI_eq h) x in_X18 (ci := 24) rfl (k := 3) (by decide) q1076 (fun _ h => h) dX18_solveNegated_1 fun v1 => ?_
  refine z_iload_n (pc := 4) x 1 dX18_solveNegated_4 rfl rfl ?_
  refine z_ishr (pc := 5) x dX18_solveNegated_5 ?_
  refine z_iconst (pc := 6) x (v := (1 : Int32)) dX18_solveNegated_6 rfl ?_
  refine z_iand (pc := 7) x dX18_solveNegated_7 ?_
  refine z_if_ne (pc := 8) (tgt := 74) x dX18_solveNegated_8 rfl (fun _ => ?_) (fun _ => ?_)
  · refine z_aload_n (pc := 11) x 0 dX18_solveNegated_11 rfl rfl ?_
    refine z_dup (pc := 12) x dX18_solveNegated_12 rfl ?_
    refine z_get (pc := 13) (fun _ _ h => zAsI_eq h) x in_X18 (ci := 24) rfl (k := 3) (by decide) q1076 (fun _ h => h) dX18_solveNegated_13 fun v13 => ?_
    refine z_iconst (pc := 16) x (v := (1 : Int32)) dX18_solveNegated_16 rfl ?_
    refine z_iload_n (pc := 17) x 1 dX18_solveNegated_17 rfl rfl ?_
    refine z_ishl (pc := 18) x dX18_solveNegated_18 ?_
    refine z_ior (pc := 19) x dX18_solveNegated_19 ?_
    refine z_set (pc := 20) (v := zI (v13 ||| ((1 : Int32) <<< (a1 &&& 31)))) x in_X18 tyX18 tyX18_ok nmX18 (ci := 24) rfl (k := 3) (by decide) q1076 (fun _ h => h) rfl rfl rfl dX18_solveNegated_20 ?_
    refine z_new (pc := 23) x in_X18 tyX18 tyX18_ok q1178 q1064 q154 (ci := 24) rfl (by decide) (by decide +kernel) dX18_solveNegated_23 fun v23 => ?_
    refine z_dup (pc := 26) x dX18_solveNegated_26 rfl ?_
    refine z_aload_n (pc := 27) x 0 dX18_solveNegated_27 rfl rfl ?_
    refine z_get (pc := 28) (fun _ _ h => zAsR_eq h) x in_X18 (ci := 24) rfl (k := 0) (by decide) q1073 (fun _ h => h) dX18_solveNegated_28 fun v28 => ?_
    refine z_call (pc := 31) (z_canI (pc := 31) (ret := none) (As := [zP v28]) (st := [zP v23]) x (fun b => m_X18_init hl (some b) v28) q1179 rfl q1066 q154 q1067 n_X18_init ⟨by omega, by omega⟩ (Nat.le_of_ble_eq_true rfl) dX18_solveNegated_31) (zv_V ?_) (fun q => zx_thr x (fun z hz => (htab z hz).elim) q)
    refine z_iload_n (pc := 34) x 1 dX18_solveNegated_34 rfl rfl ?_
    refine z_iconst (pc := 35) x (v := (-1 : Int32)) dX18_solveNegated_35 rfl ?_
    refine z_iconst (pc := 36) x (v := (-1 : Int32)) dX18_solveNegated_36 rfl ?_
    refine z_call (pc := 37) (z_canV (pc := 37) (As := [zI a1, zI (-1 : Int32), zI (-1 : Int32)]) (st := []) x (ci := 24) rfl (fun b => hr_X18_solve (some b) a1 (-1 : Int32) (-1 : Int32)) q1180 q1090 (x.2.2.2.2.1 _ q1091) q154 q1092 n_X18_solve ⟨by omega, by omega⟩ (Nat.le_of_ble_eq_true rfl) dX18_solveNegated_37) (zv_R fun v37 => ?_) (fun q => zx_thr x (fun z hz => (htab z hz).elim) q)
    refine z_astore_n (pc := 40) (lv' := [(2, zP v37), (0, zP a0), (1, zI a1)]) x dX18_solveNegated_40 rfl (Nat.le_of_ble_eq_true rfl) rfl ?_
    refine z_iconst (pc := 41) x (v := (0 : Int32)) dX18_solveNegated_41 rfl ?_
    refine z_istore_n (pc := 42) (lv' := [(3, zI (0 : Int32)), (2, zP v37), (0, zP a0), (1, zI a1)]) x dX18_solveNegated_42 rfl (Nat.le_of_ble_eq_true rfl) rfl ?_
    exact z_sub [2, 3, 1, 0] rfl (w_X18_solveNegated_43 x hl hret hnm htab hr_X18_solve hB_X18_solve zN a0 a1 v37 (0 : Int32))
  · exact z_vret (pc := 74) x hret dX18_solveNegated_74
/-! X18_holdsRest -/
def s_X18_holdsRest_92 (E : zE) (r_X18_solve : Option Nat → Int32 → Int32 → Int32 → zM) (k13 : Option Nat → Option Nat → Int32 → Option Nat → zM) (a0 : Option Nat) (a2 : Option Nat) (a3 : Int32) (a4 : Option Nat) : zM := k13 a0 a2 a3 a4
theorem w_X18_holdsRest_92 {fr_X18_solve : Nat} {r_X18_solve : Option Nat → Int32 → Int32 → Int32 → zM} (x : zCx p l R s m args meth c E D tA cX18_holdsRest 6 yX18_holdsRest.cls (fr_X18_solve + 2)) (hl : l.stackTraces = false) (hret : meth.sig.returnType = (Option.some Jvm.ClassFile.FieldType.boolean)) (hnm : meth.name = yX18_holdsRest.name) (htab : ∀ z ∈ c.exceptionTable.toList, False) (hr_X18_solve : ∀ (a0 : Option Nat) (a1 : Int32) (a2 : Int32) (a3 : Int32), zMet l E D tA yX18_solve (ws_ yX18_solve cX18_solve 6 (Option.some (Jvm.ClassFile.FieldType.object "BrambleLogic$Codes"))) fr_X18_solve (r_X18_solve a0 a1 a2 a3) [zP a0, zI a1, zI a2, zI a3]) (hB_X18_solve : 200 ≤ fr_X18_solve) {k13 : Option Nat → Option Nat → Int32 → Option Nat → zM} (h13 : ∀ (a0 : Option Nat) (a2 : Option Nat) (a3 : Int32) (a4 : Option Nat) , zW p l e R s m args below meth c E D tA 6 k0 (k13 a0 a2 a3 a4) [(0, zP a0), (2, zP a2), (3, zI a3), (4, zP a4)] 13 []) (a0 : Option Nat) (a2 : Option Nat) (a3 : Int32) (a4 : Option Nat) : zW p l e R s m args below meth c E D tA 6 k0 (s_X18_holdsRest_92 E r_X18_solve k13 a0 a2 a3 a4) [(0, zP a0), (2, zP a2), (3, zI a3), (4, zP a4)] 92 [] := by
  unfold s_X18_holdsRest_92
  refine z_goto (pc := 92) (tgt := 13) x dX18_holdsRest_92 rfl ?_
  exact z_sub [0, 1, 2, 3] rfl (h13 a0 a2 a3 a4)
def s_X18_holdsRest_79 (E : zE) (r_X18_solve : Option Nat → Int32 → Int32 → Int32 → zM) (k13 : Option Nat → Option Nat → Int32 → Option Nat → zM) (a0 : Option Nat) (a2 : Option Nat) (a4 : Option Nat) (a5 : Option Nat) : zM := zGetR a0 24 2 (fun v82 => zC (zRv a5 [(29, fun b => s_X23_holds E (some b) v82 a2), (30, fun b => s_X24_holds E (some b) v82 a2)]) zThr (zKI (fun v86 => s_X18_holdsRest_92 E r_X18_solve k13 a0 a2 v86 a4)))
theorem w_X18_holdsRest_79 {fr_X18_solve : Nat} {r_X18_solve : Option Nat → Int32 → Int32 → Int32 → zM} (x : zCx p l R s m args meth c E D tA cX18_holdsRest 6 yX18_holdsRest.cls (fr_X18_solve + 2)) (hl : l.stackTraces = false) (hret : meth.sig.returnType = (Option.some Jvm.ClassFile.FieldType.boolean)) (hnm : meth.name = yX18_holdsRest.name) (htab : ∀ z ∈ c.exceptionTable.toList, False) (hr_X18_solve : ∀ (a0 : Option Nat) (a1 : Int32) (a2 : Int32) (a3 : Int32), zMet l E D tA yX18_solve (ws_ yX18_solve cX18_solve 6 (Option.some (Jvm.ClassFile.FieldType.object "BrambleLogic$Codes"))) fr_X18_solve (r_X18_solve a0 a1 a2 a3) [zP a0, zI a1, zI a2, zI a3]) (hB_X18_solve : 200 ≤ fr_X18_solve) {k13 : Option Nat → Option Nat → Int32 → Option Nat → zM} (h13 : ∀ (a0 : Option Nat) (a2 : Option Nat) (a3 : Int32) (a4 : Option Nat) , zW p l e R s m args below meth c E D tA 6 k0 (k13 a0 a2 a3 a4) [(0, zP a0), (2, zP a2), (3, zI a3), (4, zP a4)] 13 []) (a0 : Option Nat) (a2 : Option Nat) (a4 : Option Nat) (a5 : Option Nat) : zW p l e R s m args below meth c E D tA 6 k0 (s_X18_holdsRest_79 E r_X18_solve k13 a0 a2 a4 a5) [(0, zP a0), (2, zP a2), (4, zP a4), (5, zP a5)] 79 [] := by
  unfold s_X18_holdsRest_79
  refine z_aload (pc := 79) x 3 dX18_holdsRest_79 rfl ?_
  refine z_aload_n (pc := 81) x 0 dX18_holdsRest_81 rfl rfl ?_
  refine z_get (pc := 82) (fun _ _ h => zAsR_eq h) x in_X18 (ci := 24) rfl (k := 2) (by decide) q1075 (fun _ h => h) dX18_holdsRest_82 fun v82 => ?_
  refine z_aload_n (pc := 85) x 1 dX18_holdsRest_85 rfl rfl ?_
  refine z_call (pc := 86) (z_can_cons (z_canIF (pc := 86) (As := [zP v82, zP a2]) (st := []) (x9 := ⟨"BrambleLogic$Literal", "holds", "(LBrambleLogic$Facts;[I)Z"⟩) x (ci := 29) rfl (fun b => m_X23_holds hl (some b) v82 a2) q1184 q793 q792 (by decide) q794 q796 q797 q795 q514 q162 q798 nx_BrambleLogic_Literal_holds__LBrambleLogic_Facts__I_Z ⟨by omega, by omega⟩ (Nat.le_of_ble_eq_true rfl) dX18_holdsRest_86) (z_can_cons (z_canIF (pc := 86) (As := [zP v82, zP a2]) (st := []) (x9 := ⟨"BrambleLogic$Literal", "holds", "(LBrambleLogic$Facts;[I)Z"⟩) x (ci := 30) rfl (fun b => m_X24_holds hl (some b) v82 a2) q1184 q793 q792 (by decide) q821 q823 q824 q822 q536 q163 q825 nx_BrambleLogic_Literal_holds__LBrambleLogic_Facts__I_Z ⟨by omega, by omega⟩ (Nat.le_of_ble_eq_true rfl) dX18_holdsRest_86) (z_can_nil))) (zv_I fun v86 => ?_) (fun q => zx_thr x (fun z hz => (htab z hz).elim) q)
  refine z_istore_n (pc := 91) (lv' := [(3, zI v86), (0, zP a0), (2, zP a2), (4, zP a4), (5, zP a5)]) x dX18_holdsRest_91 rfl (Nat.le_of_ble_eq_true rfl) rfl ?_
  exact z_sub [1, 2, 0, 3] rfl (w_X18_holdsRest_92 x hl hret hnm htab hr_X18_solve hB_X18_solve h13 a0 a2 v86 a4)
def s_X18_holdsRest_13 (E : zE) (r_X18_solve : Option Nat → Int32 → Int32 → Int32 → zM) : Nat → Option Nat → Option Nat → Int32 → Option Nat → zM
  | 0, _, _, _, _ => zFail
  | n + 1, a0, a2, a3, a4 => zC (zRv a4 [(11, fun b => s_J22_hasNext E (some b))]) zThr (zKI (fun v15 => if v15 = 0 then (zRetN .boolean a3) else (zC (zRv a4 [(11, fun b => s_J22_next E (some b))]) zThr (zKR (fun v25 => zCst 12 v25 (if a3 = 0 then (s_X18_holdsRest_92 E r_X18_solve (s_X18_holdsRest_13 E r_X18_solve n) a0 a2 a3 a4) else (zC (zRv v25 [(29, fun b => s_X23_isPositive E (some b)), (30, fun b => s_X26_isPositive E (some b))]) zThr (zKI (fun v41 => if v41 = 0 then (zC (zRv v25 [(29, fun b => s_X26_isNegative E (some b)), (30, fun b => s_X26_isNegative E (some b))]) zThr (zKI (fun v51 => if v51 = 0 then (s_X18_holdsRest_79 E r_X18_solve (s_X18_holdsRest_13 E r_X18_solve n) a0 a2 a4 v25) else (zC (zRv v25 [(29, fun b => s_X23_atom E (some b)), (30, fun b => s_X26_atom E (some b))]) zThr (zKR (fun v62 => zC (zRv v62 [(12, fun b => s_J23_get E (some b))]) zThr (zKR (fun v67 => zCsS 37 v67 (zGetI v67 37 0 (fun v73 => zC (zRv a0 [(24, fun b => s_X18_solveNegated E r_X18_solve (some b) v73)]) zThr (zKV (s_X18_holdsRest_79 E r_X18_solve (s_X18_holdsRest_13 E r_X18_solve n) a0 a2 a4 v25)))))))))))) else (s_X18_holdsRest_92 E r_X18_solve (s_X18_holdsRest_13 E r_X18_solve n) a0 a2 a3 a4))))))))))
theorem w_X18_holdsRest_13 {fr_X18_solve : Nat} {r_X18_solve : Option Nat → Int32 → Int32 → Int32 → zM} (x : zCx p l R s m args meth c E D tA cX18_holdsRest 6 yX18_holdsRest.cls (fr_X18_solve + 2)) (hl : l.stackTraces = false) (hret : meth.sig.returnType = (Option.some Jvm.ClassFile.FieldType.boolean)) (hnm : meth.name = yX18_holdsRest.name) (htab : ∀ z ∈ c.exceptionTable.toList, False) (hr_X18_solve : ∀ (a0 : Option Nat) (a1 : Int32) (a2 : Int32) (a3 : Int32), zMet l E D tA yX18_solve (ws_ yX18_solve cX18_solve 6 (Option.some (Jvm.ClassFile.FieldType.object "BrambleLogic$Codes"))) fr_X18_solve (r_X18_solve a0 a1 a2 a3) [zP a0, zI a1, zI a2, zI a3]) (hB_X18_solve : 200 ≤ fr_X18_solve) : ∀ (n : Nat) (a0 : Option Nat) (a2 : Option Nat) (a3 : Int32) (a4 : Option Nat), zW p l e R s m args below meth c E D tA 6 k0 (s_X18_holdsRest_13 E r_X18_solve n a0 a2 a3 a4) [(0, zP a0), (2, zP a2), (3, zI a3), (4, zP a4)] 13 [] := by
  intro n
  induction n with
  | zero => intro a0 a2 a3 a4; exact z_fail
  | succ n h13 =>
    intro a0 a2 a3 a4
    rw [s_X18_holdsRest_13]
    refine z_aload (pc := 13) x 3 dX18_holdsRest_13 rfl ?_
    refine z_call (pc := 15) (z_canIF (pc := 15) (As := []) (st := []) (x9 := ⟨"java/util/Iterator", "hasNext", "()Z"⟩) x (ci := 11) rfl (fun b => m_J22_hasNext hl (some b)) q1100 q413 q412 (by decide) q415 q417 q418 q416 q414 q139 q419 nx_java_util_Iterator_hasNext___Z ⟨by omega, by omega⟩ (Nat.le_of_ble_eq_true rfl) dX18_holdsRest_15) (zv_I fun v15 => ?_) (fun q => zx_thr x (fun z hz => (htab z hz).elim) q)
    refine z_if_eq (pc := 20) (tgt := 95) x dX18_holdsRest_20 rfl (fun _ => ?_) (fun _ => ?_)
    · refine z_iload_n (pc := 95) x 2 dX18_holdsRest_95 rfl rfl ?_
      exact z_zret (pc := 96) x hret dX18_holdsRest_96
    · refine z_aload (pc := 23) x 3 dX18_holdsRest_23 rfl ?_
      refine z_call (pc := 25) (z_canIF (pc := 25) (As := []) (st := []) (x9 := ⟨"java/util/Iterator", "next", "()Ljava/lang/Object;"⟩) x (ci := 11) rfl (fun b => m_J22_next hl (some b)) q1102 q423 q422 (by decide) q424 q426 q427 q425 q414 q139 q428 nx_java_util_Iterator_next___Ljava_lang_Object_ ⟨by omega, by omega⟩ (Nat.le_of_ble_eq_true rfl) dX18_holdsRest_25) (zv_R fun v25 => ?_) (fun q => zx_thr x (fun z hz => (htab z hz).elim) q)
      refine z_cst (pc := 30) x (tg := 12) rfl q1165 dX18_holdsRest_30 ?_
      refine z_astore (pc := 33) (lv' := [(5, zP v25), (0, zP a0), (2, zP a2), (3, zI a3), (4, zP a4)]) x dX18_holdsRest_33 (Nat.le_of_ble_eq_true rfl) rfl ?_
      refine z_iload_n (pc := 35) x 3 dX18_holdsRest_35 rfl rfl ?_
      refine z_if_eq (pc := 36) (tgt := 92) x dX18_holdsRest_36 rfl (fun _ => ?_) (fun _ => ?_)
      · exact z_sub [1, 2, 3, 4] rfl (w_X18_holdsRest_92 x hl hret hnm htab hr_X18_solve hB_X18_solve h13 a0 a2 a3 a4)
      · refine z_aload (pc := 39) x 0 dX18_holdsRest_39 rfl ?_
        refine z_call (pc := 41) (z_can_cons (z_canIF (pc := 41) (As := []) (st := []) (x9 := ⟨"BrambleLogic$Literal", "isPositive", "()Z"⟩) x (ci := 29) rfl (fun b => m_X23_isPositive hl (some b)) q1167 q583 q582 (by decide) q584 q586 q587 q585 q514 q162 q588 nx_BrambleLogic_Literal_isPositive___Z ⟨by omega, by omega⟩ (Nat.le_of_ble_eq_true rfl) dX18_holdsRest_41) (z_can_cons (z_canID (pc := 41) (As := []) (st := []) (x9 := ⟨"BrambleLogic$Literal", "isPositive", "()Z"⟩) x (ci := 30) rfl (fun b => m_X26_isPositive hl (some b)) q1167 q583 q582 (by decide) (List.mem_of_getElem? (i := 7) rfl) q590 q591 q536 q165 q592 nx_BrambleLogic_Literal_isPositive___Z ⟨by omega, by omega⟩ (Nat.le_of_ble_eq_true rfl) dX18_holdsRest_41) (z_can_nil))) (zv_I fun v41 => ?_) (fun q => zx_thr x (fun z hz => (htab z hz).elim) q)
        refine z_if_ne (pc := 46) (tgt := 92) x dX18_holdsRest_46 rfl (fun _ => ?_) (fun _ => ?_)
        · refine z_aload (pc := 49) x 0 dX18_holdsRest_49 rfl ?_
          refine z_call (pc := 51) (z_can_cons (z_canID (pc := 51) (As := []) (st := []) (x9 := ⟨"BrambleLogic$Literal", "isNegative", "()Z"⟩) x (ci := 29) rfl (fun b => m_X26_isNegative hl (some b)) q1169 q572 q571 (by decide) (List.mem_of_getElem? (i := 6) rfl) q574 q575 q514 q165 q576 nx_BrambleLogic_Literal_isNegative___Z ⟨by omega, by omega⟩ (Nat.le_of_ble_eq_true rfl) dX18_holdsRest_51) (z_can_cons (z_canID (pc := 51) (As := []) (st := []) (x9 := ⟨"BrambleLogic$Literal", "isNegative", "()Z"⟩) x (ci := 30) rfl (fun b => m_X26_isNegative hl (some b)) q1169 q572 q571 (by decide) (List.mem_of_getElem? (i := 8) rfl) q574 q575 q536 q165 q576 nx_BrambleLogic_Literal_isNegative___Z ⟨by omega, by omega⟩ (Nat.le_of_ble_eq_true rfl) dX18_holdsRest_51) (z_can_nil))) (zv_I fun v51 => ?_) (fun q => zx_thr x (fun z hz => (htab z hz).elim) q)
          refine z_if_eq (pc := 56) (tgt := 79) x dX18_holdsRest_56 rfl (fun _ => ?_) (fun _ => ?_)
          · exact z_sub [1, 2, 4, 0] rfl (w_X18_holdsRest_79 x hl hret hnm htab hr_X18_solve hB_X18_solve h13 a0 a2 a4 v25)
          · refine z_aload_n (pc := 59) x 1 dX18_holdsRest_59 rfl rfl ?_
            refine z_aload (pc := 60) x 0 dX18_holdsRest_60 rfl ?_
            refine z_call (pc := 62) (z_can_cons (z_canIF (pc := 62) (As := []) (st := [zP a0]) (x9 := ⟨"BrambleLogic$Literal", "atom", "()Ljava/util/Optional;"⟩) x (ci := 29) rfl (fun b => m_X23_atom hl (some b)) q1171 q513 q512 (by decide) q515 q517 q518 q516 q514 q162 q519 nx_BrambleLogic_Literal_atom___Ljava_util_Optional_ ⟨by omega, by omega⟩ (Nat.le_of_ble_eq_true rfl) dX18_holdsRest_62) (z_can_cons (z_canID (pc := 62) (As := []) (st := [zP a0]) (x9 := ⟨"BrambleLogic$Literal", "atom", "()Ljava/util/Optional;"⟩) x (ci := 30) rfl (fun b => m_X26_atom hl (some b)) q1171 q513 q512 (by decide) (List.mem_of_getElem? (i := 5) rfl) q538 q539 q536 q165 q540 nx_BrambleLogic_Literal_atom___Ljava_util_Optional_ ⟨by omega, by omega⟩ (Nat.le_of_ble_eq_true rfl) dX18_holdsRest_62) (z_can_nil))) (zv_R fun v62 => ?_) (fun q => zx_thr x (fun z hz => (htab z hz).elim) q)
            refine z_call (pc := 67) (z_canV (pc := 67) (As := []) (st := [zP a0]) x (ci := 12) rfl (fun b => m_J23_get hl (some b)) q1172 q551 (x.2.2.2.2.1 _ q552) q140 q553 n_J23_get ⟨by omega, by omega⟩ (Nat.le_of_ble_eq_true rfl) dX18_holdsRest_67) (zv_R fun v67 => ?_) (fun q => zx_thr x (fun z hz => (htab z hz).elim) q)
            refine z_csS (pc := 70) x (ci := 37) rfl q1173 dX18_holdsRest_70 ?_
            refine z_getN (pc := 73) (fun _ _ h => zAsI_eq h) x in_X9 (ci := 37) rfl (k := 0) (by decide) q2368 (fun _ h => h) dX18_holdsRest_73 fun v73 => ?_
            refine z_call (pc := 76) (z_canV (pc := 76) (As := [zI v73]) (st := []) x (ci := 24) rfl (fun b => m_X18_solveNegated hl hr_X18_solve hB_X18_solve (some b) v73) q1174 q1176 (z_selP x (ci := 24) rfl (by decide) (zNi_inst x q1064) q1175 q1176) q154 q1177 n_X18_solveNegated ⟨by omega, by omega⟩ (Nat.le_of_ble_eq_true rfl) dX18_holdsRest_76) (zv_V ?_) (fun q => zx_thr x (fun z hz => (htab z hz).elim) q)
            exact z_sub [1, 2, 4, 0] rfl (w_X18_holdsRest_79 x hl hret hnm htab hr_X18_solve hB_X18_solve h13 a0 a2 a4 v25)
        · exact z_sub [1, 2, 3, 4] rfl (w_X18_holdsRest_92 x hl hret hnm htab hr_X18_solve hB_X18_solve h13 a0 a2 a3 a4)
def s_X18_holdsRest (E : zE) (r_X18_solve : Option Nat → Int32 → Int32 → Int32 → zM) (a0 : Option Nat) (a1 : Option Nat) (a2 : Option Nat) : zM := zGetR a1 31 1 (fun v3 => zC (zRv v3 [(10, fun b => s_J2_iterator E (some b))]) zThr (zKR (fun v6 => s_X18_holdsRest_13 E r_X18_solve zN a0 a2 (1 : Int32) v6)))
theorem m_X18_holdsRest {l : Launch} {E : zE} {D : va_G} {tA : Nat → ClassId} (hl : l.stackTraces = false) {fr_X18_solve : Nat} {r_X18_solve : Option Nat → Int32 → Int32 → Int32 → zM} (hr_X18_solve : ∀ (a0 : Option Nat) (a1 : Int32) (a2 : Int32) (a3 : Int32), zMet l E D tA yX18_solve (ws_ yX18_solve cX18_solve 6 (Option.some (Jvm.ClassFile.FieldType.object "BrambleLogic$Codes"))) fr_X18_solve (r_X18_solve a0 a1 a2 a3) [zP a0, zI a1, zI a2, zI a3]) (hB_X18_solve : 200 ≤ fr_X18_solve) (a0 : Option Nat) (a1 : Option Nat) (a2 : Option Nat) : zMet l E D tA yX18_holdsRest (ws_ yX18_holdsRest cX18_holdsRest 6 (Option.some Jvm.ClassFile.FieldType.boolean)) (fr_X18_solve + 2) (s_X18_holdsRest E r_X18_solve a0 a1 a2) [zP a0, zP a1, zP a2] := by
  refine z_met hl (by decide +kernel) (by rw [zSl_len]; exact (Nat.le_of_ble_eq_true rfl)) fun p e R s m args below meth c k0 x hret hnm htab => ?_
  refine z_lv [(0, zP a0), (1, zP a1), (2, zP a2)] rfl ?_
  unfold s_X18_holdsRest
  refine z_iconst (pc := 0) x (v := (1 : Int32)) dX18_holdsRest_0 rfl ?_
  refine z_istore_n (pc := 1) (lv' := [(3, zI (1 : Int32)), (0, zP a0), (1, zP a1), (2, zP a2)]) x dX18_holdsRest_1 rfl (Nat.le_of_ble_eq_true rfl) rfl ?_
  refine z_aload_n (pc := 2) x 2 dX18_holdsRest_2 rfl rfl ?_
  refine z_getN (pc := 3) (fun _ _ h => zAsR_eq h) x in_X25 (ci := 31) rfl (k := 1) (by decide) q2504 (fun _ h => h) dX18_holdsRest_3 fun v3 => ?_
  refine z_call (pc := 6) (z_canIF (pc := 6) (As := []) (st := []) (x9 := ⟨"java/util/List", "iterator", "()Ljava/util/Iterator;"⟩) x (ci := 10) rfl (fun b => m_J2_iterator hl (some b)) q1098 q383 q382 (by decide) q385 q387 q388 q386 q384 q112 q389 nx_java_util_List_iterator___Ljava_util_Iterator_ ⟨by omega, by omega⟩ (Nat.le_of_ble_eq_true rfl) dX18_holdsRest_6) (zv_R fun v6 => ?_) (fun q => zx_thr x (fun z hz => (htab z hz).elim) q)
  refine z_astore (pc := 11) (lv' := [(4, zP v6), (3, zI (1 : Int32)), (0, zP a0), (1, zP a1), (2, zP a2)]) x dX18_holdsRest_11 (Nat.le_of_ble_eq_true rfl) rfl ?_
  exact z_sub [2, 4, 1, 0] rfl (w_X18_holdsRest_13 x hl hret hnm htab hr_X18_solve hB_X18_solve zN a0 a2 (1 : Int32) v6)
/-! X9_firstKnown -/
def s_X9_firstKnown (E : zE) (a0 : Option Nat) (a1 : Option Nat) : zM := zGetI a0 37 1 (fun v1 => zC (s_X1_valueOf E v1 a1) zThr (zKI (fun v5 => zRet (some (.int v5)))))
theorem m_X9_firstKnown {l : Launch} {E : zE} {D : va_G} {tA : Nat → ClassId} (hl : l.stackTraces = false) (a0 : Option Nat) (a1 : Option Nat) : zMet l E D tA yX9_firstKnown (ws_ yX9_firstKnown cX9_firstKnown 2 (Option.some Jvm.ClassFile.FieldType.int)) 10 (s_X9_firstKnown E a0 a1) [zP a0, zP a1] := by
  refine z_met hl (by decide +kernel) (by rw [zSl_len]; exact (Nat.le_of_ble_eq_true rfl)) fun p e R s m args below meth c k0 x hret hnm htab => ?_
  refine z_lv [(0, zP a0), (1, zP a1)] rfl ?_
  unfold s_X9_firstKnown
  refine z_aload_n (pc := 0) x 0 dX9_firstKnown_0 rfl rfl ?_
  refine z_get (pc := 1) (fun _ _ h => zAsI_eq h) x in_X9 (ci := 37) rfl (k := 1) (by decide) q2369 (fun _ h => h) dX9_firstKnown_1 fun v1 => ?_
  refine z_aload_n (pc := 4) x 1 dX9_firstKnown_4 rfl rfl ?_
  refine z_call (pc := 5) (z_canSN (pc := 5) (As := [zI v1, zP a1]) (st := []) x (m_X1_valueOf hl v1 a1) q803 q804 q108 q805 n_X1_valueOf ⟨by decide, by decide⟩ (Nat.le_of_ble_eq_true rfl) dX9_firstKnown_5) (zv_I fun v5 => ?_) (fun q => zx_thr x (fun z hz => (htab z hz).elim) q)
  exact z_iret (pc := 8) x hret dX9_firstKnown_8
/-! X9_secondKnown -/
def s_X9_secondKnown (E : zE) (a0 : Option Nat) (a1 : Option Nat) : zM := zGetI a0 37 0 (fun v1 => zC (s_X1_isPair E v1) zThr (zKI (fun v4 => if v4 = 0 then (zRet (some (.int (-1 : Int32)))) else (zGetI a0 37 2 (fun v11 => zC (s_X1_valueOf E v11 a1) zThr (zKI (fun v15 => zRet (some (.int v15)))))))))
theorem m_X9_secondKnown {l : Launch} {E : zE} {D : va_G} {tA : Nat → ClassId} (hl : l.stackTraces = false) (a0 : Option Nat) (a1 : Option Nat) : zMet l E D tA yX9_secondKnown (ws_ yX9_secondKnown cX9_secondKnown 2 (Option.some Jvm.ClassFile.FieldType.int)) 10 (s_X9_secondKnown E a0 a1) [zP a0, zP a1] := by
  refine z_met hl (by decide +kernel) (by rw [zSl_len]; exact (Nat.le_of_ble_eq_true rfl)) fun p e R s m args below meth c k0 x hret hnm htab => ?_
  refine z_lv [(0, zP a0), (1, zP a1)] rfl ?_
  unfold s_X9_secondKnown
  refine z_aload_n (pc := 0) x 0 dX9_secondKnown_0 rfl rfl ?_
  refine z_get (pc := 1) (fun _ _ h => zAsI_eq h) x in_X9 (ci := 37) rfl (k := 0) (by decide) q2358 (fun _ h => h) dX9_secondKnown_1 fun v1 => ?_
  refine z_call (pc := 4) (z_canSN (pc := 4) (As := [zI v1]) (st := []) x (m_X1_isPair hl v1) q806 q807 q108 q808 n_X1_isPair ⟨by decide, by decide⟩ (Nat.le_of_ble_eq_true rfl) dX9_secondKnown_4) (zv_I fun v4 => ?_) (fun q => zx_thr x (fun z hz => (htab z hz).elim) q)
  refine z_if_eq (pc := 7) (tgt := 21) x dX9_secondKnown_7 rfl (fun _ => ?_) (fun _ => ?_)
  · refine z_iconst (pc := 21) x (v := (-1 : Int32)) dX9_secondKnown_21 rfl ?_
    exact z_iret (pc := 22) x hret dX9_secondKnown_22
  · refine z_aload_n (pc := 10) x 0 dX9_secondKnown_10 rfl rfl ?_
    refine z_get (pc := 11) (fun _ _ h => zAsI_eq h) x in_X9 (ci := 37) rfl (k := 2) (by decide) q2371 (fun _ h => h) dX9_secondKnown_11 fun v11 => ?_
    refine z_aload_n (pc := 14) x 1 dX9_secondKnown_14 rfl rfl ?_
    refine z_call (pc := 15) (z_canSN (pc := 15) (As := [zI v11, zP a1]) (st := []) x (m_X1_valueOf hl v11 a1) q803 q804 q108 q805 n_X1_valueOf ⟨by decide, by decide⟩ (Nat.le_of_ble_eq_true rfl) dX9_secondKnown_15) (zv_I fun v15 => ?_) (fun q => zx_thr x (fun z hz => (htab z hz).elim) q)
    refine z_goto (pc := 18) (tgt := 22) x dX9_secondKnown_18 rfl ?_
    exact z_iret (pc := 22) x hret dX9_secondKnown_22
/-! X18_join -/
def s_X18_join_168 (E : zE) (r_X18_solve : Option Nat → Int32 → Int32 → Int32 → zM) (r_X18_join : Option Nat → Option Nat → Option Nat → Int32 → Option Nat → zM) (k115 : Option Nat → Option Nat → Option Nat → Int32 → Option Nat → Option Nat → Option Nat → Int32 → zM) (a0 : Option Nat) (a1 : Option Nat) (a2 : Option Nat) (a3 : Int32) (a4 : Option Nat) (a5 : Option Nat) (a6 : Option Nat) (a7 : Int32) : zM := k115 a0 a1 a2 a3 a4 a5 a6 (a7 + (1 : Int32))
theorem w_X18_join_168 {fr_X18_solve : Nat} {fr_X18_join : Nat} {r_X18_solve : Option Nat → Int32 → Int32 → Int32 → zM} {r_X18_join : Option Nat → Option Nat → Option Nat → Int32 → Option Nat → zM} (x : zCx p l R s m args meth c E D tA cX18_join 9 yX18_join.cls (fr_X18_join + 3)) (hl : l.stackTraces = false) (hret : meth.sig.returnType = (Option.none : Option Jvm.ClassFile.FieldType)) (hnm : meth.name = yX18_join.name) (htab : ∀ z ∈ c.exceptionTable.toList, False) (hr_X18_solve : ∀ (a0 : Option Nat) (a1 : Int32) (a2 : Int32) (a3 : Int32), zMet l E D tA yX18_solve (ws_ yX18_solve cX18_solve 6 (Option.some (Jvm.ClassFile.FieldType.object "BrambleLogic$Codes"))) fr_X18_solve (r_X18_solve a0 a1 a2 a3) [zP a0, zI a1, zI a2, zI a3]) (hr_X18_join : ∀ (a0 : Option Nat) (a1 : Option Nat) (a2 : Option Nat) (a3 : Int32) (a4 : Option Nat), zMet l E D tA yX18_join (ws_ yX18_join cX18_join 9 (Option.none : Option Jvm.ClassFile.FieldType)) fr_X18_join (r_X18_join a0 a1 a2 a3 a4) [zP a0, zP a1, zP a2, zI a3, zP a4]) (hB_X18_solve : 200 ≤ fr_X18_solve) (hle : fr_X18_solve ≤ fr_X18_join) {k115 : Option Nat → Option Nat → Option Nat → Int32 → Option Nat → Option Nat → Option Nat → Int32 → zM} (h115 : ∀ (a0 : Option Nat) (a1 : Option Nat) (a2 : Option Nat) (a3 : Int32) (a4 : Option Nat) (a5 : Option Nat) (a6 : Option Nat) (a7 : Int32) , zW p l e R s m args below meth c E D tA 9 k0 (k115 a0 a1 a2 a3 a4 a5 a6 a7) [(0, zP a0), (1, zP a1), (2, zP a2), (3, zI a3), (4, zP a4), (5, zP a5), (6, zP a6), (7, zI a7)] 115 []) (a0 : Option Nat) (a1 : Option Nat) (a2 : Option Nat) (a3 : Int32) (a4 : Option Nat) (a5 : Option Nat) (a6 : Option Nat) (a7 : Int32) : zW p l e R s m args below meth c E D tA 9 k0 (s_X18_join_168 E r_X18_solve r_X18_join k115 a0 a1 a2 a3 a4 a5 a6 a7) [(0, zP a0), (1, zP a1), (2, zP a2), (3, zI a3), (4, zP a4), (5, zP a5), (6, zP a6), (7, zI a7)] 168 [] := by
  unfold s_X18_join_168
  refine z_iinc (pc := 168) (lv' := [(7, zI (a7 + (1 : Int32))), (0, zP a0), (1, zP a1), (2, zP a2), (3, zI a3), (4, zP a4), (5, zP a5), (6, zP a6)]) x (v2 := (a7 + (1 : Int32))) 7 dX18_join_168 rfl rfl (Nat.le_of_ble_eq_true rfl) rfl ?_
  refine z_goto (pc := 171) (tgt := 115) x dX18_join_171 rfl ?_
  exact z_sub [1, 2, 3, 4, 5, 6, 7, 0] rfl (h115 a0 a1 a2 a3 a4 a5 a6 (a7 + (1 : Int32)))
def s_X18_join_115 (E : zE) (r_X18_solve : Option Nat → Int32 → Int32 → Int32 → zM) (r_X18_join : Option Nat → Option Nat → Option Nat → Int32 → Option Nat → zM) : Nat → Option Nat → Option Nat → Option Nat → Int32 → Option Nat → Option Nat → Option Nat → Int32 → zM
  | 0, _, _, _, _, _, _, _, _ => zFail
  | n + 1, a0, a1, a2, a3, a4, a5, a6, a7 => if (100 : Int32) ≤ a7 then (zRet none) else (zCln 0 a4 (fun v124 => zCsA 0 v124 (zGetR a6 23 3 (fun v134 => zC (zRv v134 [(33, fun b => s_X5_has E (some b) a7)]) zThr (zKI (fun v139 => if v139 = 0 then (s_X18_join_168 E r_X18_solve r_X18_join (s_X18_join_115 E r_X18_solve r_X18_join n) a0 a1 a2 a3 a4 a5 a6 a7) else (zC (zRv a5 [(37, fun b => s_X9_match E (some b) a7 v124)]) zThr (zKI (fun v151 => if v151 = 0 then (s_X18_join_168 E r_X18_solve r_X18_join (s_X18_join_115 E r_X18_solve r_X18_join n) a0 a1 a2 a3 a4 a5 a6 a7) else (zC (zRv a0 [(24, fun b => r_X18_join (some b) a1 a2 (a3 + (1 : Int32)) v124)]) zThr (zKV (s_X18_join_168 E r_X18_solve r_X18_join (s_X18_join_115 E r_X18_solve r_X18_join n) a0 a1 a2 a3 a4 a5 a6 a7))))))))))))
theorem w_X18_join_115 {fr_X18_solve : Nat} {fr_X18_join : Nat} {r_X18_solve : Option Nat → Int32 → Int32 → Int32 → zM} {r_X18_join : Option Nat → Option Nat → Option Nat → Int32 → Option Nat → zM} (x : zCx p l R s m args meth c E D tA cX18_join 9 yX18_join.cls (fr_X18_join + 3)) (hl : l.stackTraces = false) (hret : meth.sig.returnType = (Option.none : Option Jvm.ClassFile.FieldType)) (hnm : meth.name = yX18_join.name) (htab : ∀ z ∈ c.exceptionTable.toList, False) (hr_X18_solve : ∀ (a0 : Option Nat) (a1 : Int32) (a2 : Int32) (a3 : Int32), zMet l E D tA yX18_solve (ws_ yX18_solve cX18_solve 6 (Option.some (Jvm.ClassFile.FieldType.object "BrambleLogic$Codes"))) fr_X18_solve (r_X18_solve a0 a1 a2 a3) [zP a0, zI a1, zI a2, zI a3]) (hr_X18_join : ∀ (a0 : Option Nat) (a1 : Option Nat) (a2 : Option Nat) (a3 : Int32) (a4 : Option Nat), zMet l E D tA yX18_join (ws_ yX18_join cX18_join 9 (Option.none : Option Jvm.ClassFile.FieldType)) fr_X18_join (r_X18_join a0 a1 a2 a3 a4) [zP a0, zP a1, zP a2, zI a3, zP a4]) (hB_X18_solve : 200 ≤ fr_X18_solve) (hle : fr_X18_solve ≤ fr_X18_join) : ∀ (n : Nat) (a0 : Option Nat) (a1 : Option Nat) (a2 : Option Nat) (a3 : Int32) (a4 : Option Nat) (a5 : Option Nat) (a6 : Option Nat) (a7 : Int32), zW p l e R s m args below meth c E D tA 9 k0 (s_X18_join_115 E r_X18_solve r_X18_join n a0 a1 a2 a3 a4 a5 a6 a7) [(0, zP a0), (1, zP a1), (2, zP a2), (3, zI a3), (4, zP a4), (5, zP a5), (6, zP a6), (7, zI a7)] 115 [] := by
  intro n
  induction n with
  | zero => intro a0 a1 a2 a3 a4 a5 a6 a7; exact z_fail
  | succ n h115 =>
    intro a0 a1 a2 a3 a4 a5 a6 a7
    rw [s_X18_join_115]
    refine z_iload (pc := 115) x 7 dX18_join_115 rfl ?_
    refine z_bipush (pc := 117) x (v := (100 : Int32)) dX18_join_117 rfl ?_
    refine z_icmp_ge (pc := 119) (tgt := 174) x dX18_join_119 rfl (fun _ => ?_) (fun _ => ?_)
    · exact z_vret (pc := 174) x hret dX18_join_174
    · refine z_aload (pc := 122) x 4 dX18_join_122 rfl ?_
      refine z_cln (pc := 124) x (t := 0) (ad := "[I") rfl (fun _ hc => hc) q1194 q629 q630 q631 q632 q633 (by omega) (zSum (k := 0) rfl (by omega)) dX18_join_124 fun v124 => ?_
      refine z_csA (pc := 127) x (t := 0) rfl (fun _ hc => hc) q1195 dX18_join_127 ?_
      refine z_astore (pc := 130) (lv' := [(8, zP v124), (0, zP a0), (1, zP a1), (2, zP a2), (3, zI a3), (4, zP a4), (5, zP a5), (6, zP a6), (7, zI a7)]) x dX18_join_130 (Nat.le_of_ble_eq_true rfl) rfl ?_
      refine z_aload (pc := 132) x 7 dX18_join_132 rfl ?_
      refine z_getN (pc := 134) (fun _ _ h => zAsR_eq h) x in_X17 (ci := 23) rfl (k := 3) (by decide) q1123 (fun _ h => h) dX18_join_134 fun v134 => ?_
      refine z_iload (pc := 137) x 8 dX18_join_137 rfl ?_
      refine z_call (pc := 139) (z_canV (pc := 139) (As := [zI a7]) (st := []) x (ci := 33) rfl (fun b => m_X5_has hl (some b) a7) q1181 q818 (x.2.2.2.2.1 _ q819) q115 q820 n_X5_has ⟨by omega, by omega⟩ (Nat.le_of_ble_eq_true rfl) dX18_join_139) (zv_I fun v139 => ?_) (fun q => zx_thr x (fun z hz => (htab z hz).elim) q)
      refine z_if_eq (pc := 142) (tgt := 168) x dX18_join_142 rfl (fun _ => ?_) (fun _ => ?_)
      · exact z_sub [1, 2, 3, 4, 5, 6, 7, 8] rfl (w_X18_join_168 x hl hret hnm htab hr_X18_solve hr_X18_join hB_X18_solve hle h115 a0 a1 a2 a3 a4 a5 a6 a7)
      · refine z_aload (pc := 145) x 6 dX18_join_145 rfl ?_
        refine z_iload (pc := 147) x 8 dX18_join_147 rfl ?_
        refine z_aload (pc := 149) x 0 dX18_join_149 rfl ?_
        refine z_call (pc := 151) (z_canV (pc := 151) (As := [zI a7, zP v124]) (st := []) x (ci := 37) rfl (fun b => m_X9_match hl (some b) a7 v124) q1196 q864 (x.2.2.2.2.1 _ q865) q143 q866 n_X9_match ⟨by omega, by omega⟩ (Nat.le_of_ble_eq_true rfl) dX18_join_151) (zv_I fun v151 => ?_) (fun q => zx_thr x (fun z hz => (htab z hz).elim) q)
        refine z_if_eq (pc := 154) (tgt := 168) x dX18_join_154 rfl (fun _ => ?_) (fun _ => ?_)
        · exact z_sub [1, 2, 3, 4, 5, 6, 7, 8] rfl (w_X18_join_168 x hl hret hnm htab hr_X18_solve hr_X18_join hB_X18_solve hle h115 a0 a1 a2 a3 a4 a5 a6 a7)
        · refine z_aload_n (pc := 157) x 1 dX18_join_157 rfl rfl ?_
          refine z_aload_n (pc := 158) x 2 dX18_join_158 rfl rfl ?_
          refine z_aload_n (pc := 159) x 3 dX18_join_159 rfl rfl ?_
          refine z_iload_n (pc := 160) x 4 dX18_join_160 rfl rfl ?_
          refine z_iconst (pc := 161) x (v := (1 : Int32)) dX18_join_161 rfl ?_
          refine z_iadd (pc := 162) x dX18_join_162 ?_
          refine z_aload (pc := 163) x 0 dX18_join_163 rfl ?_
          refine z_call (pc := 165) (z_canV (pc := 165) (As := [zP a1, zP a2, zI (a3 + (1 : Int32)), zP v124]) (st := []) x (ci := 24) rfl (fun b => hr_X18_join (some b) a1 a2 (a3 + (1 : Int32)) v124) q1156 q1158 (z_selP x (ci := 24) rfl (by decide) (zNi_inst x q1064) q1157 q1158) q154 q1159 n_X18_join ⟨by omega, by omega⟩ (Nat.le_of_ble_eq_true rfl) dX18_join_165) (zv_V ?_) (fun q => zx_thr x (fun z hz => (htab z hz).elim) q)
          exact z_sub [1, 2, 3, 4, 5, 6, 7, 8] rfl (w_X18_join_168 x hl hret hnm htab hr_X18_solve hr_X18_join hB_X18_solve hle h115 a0 a1 a2 a3 a4 a5 a6 a7)
def s_X18_joinb (E : zE) (r_X18_solve : Option Nat → Int32 → Int32 → Int32 → zM) (r_X18_join : Option Nat → Option Nat → Option Nat → Int32 → Option Nat → zM) (a0 : Option Nat) (a1 : Option Nat) (a2 : Option Nat) (a3 : Int32) (a4 : Option Nat) : zM := zGetR a2 31 2 (fun v2 => zC (zRv v2 [(10, fun b => s_J2_size E (some b))]) zThr (zKI (fun v5 => if a3 = v5 then (zC (s_X8_known E a4) zThr (zKR (fun v15 => zC (zRv a0 [(24, fun b => s_X18_holdsRest E r_X18_solve (some b) a2 v15)]) zThr (zKI (fun v24 => if v24 = 0 then (zRet none) else (zGetR a2 31 0 (fun v32 => zC (zRv v32 [(37, fun b => s_X9_code E (some b) v15)]) zThr (zKI (fun v37 => zC (zRv a1 [(23, fun b => s_X17_fits E (some b) v37)]) zThr (zKI (fun v40 => if v40 = 0 then (zRet none) else (zGetI a0 24 4 (fun v48 => zGetR a1 23 3 (fun v52 => zGetR a2 31 0 (fun v56 => zC (zRv v56 [(37, fun b => s_X9_code E (some b) v15)]) zThr (zKI (fun v61 => zC (zRv v52 [(33, fun b => s_X5_add E (some b) v61)]) zThr (zKI (fun v64 => zSetN E .boolean a0 24 4 (v48 ||| v64) (zRet none)))))))))))))))))))) else (zGetR a2 31 2 (fun v73 => zC (zRv v73 [(10, fun b => s_J2_get E (some b) a3)]) zThr (zKR (fun v77 => zCsS 37 v77 (zGetI v77 37 0 (fun v90 => zC (zRv v77 [(37, fun b => s_X9_firstKnown E (some b) a4)]) zThr (zKI (fun v97 => zC (zRv v77 [(37, fun b => s_X9_secondKnown E (some b) a4)]) zThr (zKI (fun v104 => zC (zRv a0 [(24, fun b => s_X18_goal E (some b) v90 v97 v104)]) zThr (zKR (fun v107 => s_X18_join_115 E r_X18_solve r_X18_join zN a0 a1 a2 a3 a4 v77 v107 (0 : Int32))))))))))))))))
theorem m_X18_joinb {l : Launch} {E : zE} {D : va_G} {tA : Nat → ClassId} (hl : l.stackTraces = false) {fr_X18_solve : Nat} {fr_X18_join : Nat} {r_X18_solve : Option Nat → Int32 → Int32 → Int32 → zM} {r_X18_join : Option Nat → Option Nat → Option Nat → Int32 → Option Nat → zM} (hr_X18_solve : ∀ (a0 : Option Nat) (a1 : Int32) (a2 : Int32) (a3 : Int32), zMet l E D tA yX18_solve (ws_ yX18_solve cX18_solve 6 (Option.some (Jvm.ClassFile.FieldType.object "BrambleLogic$Codes"))) fr_X18_solve (r_X18_solve a0 a1 a2 a3) [zP a0, zI a1, zI a2, zI a3]) (hr_X18_join : ∀ (a0 : Option Nat) (a1 : Option Nat) (a2 : Option Nat) (a3 : Int32) (a4 : Option Nat), zMet l E D tA yX18_join (ws_ yX18_join cX18_join 9 (Option.none : Option Jvm.ClassFile.FieldType)) fr_X18_join (r_X18_join a0 a1 a2 a3 a4) [zP a0, zP a1, zP a2, zI a3, zP a4]) (hB_X18_solve : 200 ≤ fr_X18_solve) (hle : fr_X18_solve ≤ fr_X18_join) (a0 : Option Nat) (a1 : Option Nat) (a2 : Option Nat) (a3 : Int32) (a4 : Option Nat) : zMet l E D tA yX18_join (ws_ yX18_join cX18_join 9 (Option.none : Option Jvm.ClassFile.FieldType)) (fr_X18_join + 3) (s_X18_joinb E r_X18_solve r_X18_join a0 a1 a2 a3 a4) [zP a0, zP a1, zP a2, zI a3, zP a4] := by
  refine z_met hl (by decide +kernel) (by rw [zSl_len]; exact (Nat.le_of_ble_eq_true rfl)) fun p e R s m args below meth c k0 x hret hnm htab => ?_
  refine z_lv [(0, zP a0), (1, zP a1), (2, zP a2), (3, zI a3), (4, zP a4)] rfl ?_
  unfold s_X18_joinb
  refine z_iload_n (pc := 0) x 3 dX18_join_0 rfl rfl ?_
  refine z_aload_n (pc := 1) x 2 dX18_join_1 rfl rfl ?_
  refine z_getN (pc := 2) (fun _ _ h => zAsR_eq h) x in_X25 (ci := 31) rfl (k := 2) (by decide) q2510 (fun _ h => h) dX18_join_2 fun v2 => ?_
  refine z_call (pc := 5) (z_canIF (pc := 5) (As := []) (st := [zI a3]) (x9 := ⟨"java/util/List", "size", "()I"⟩) x (ci := 10) rfl (fun b => m_J2_size hl (some b)) q1143 q767 q766 (by decide) q768 q770 q771 q769 q384 q112 q772 nx_java_util_List_size___I ⟨by omega, by omega⟩ (Nat.le_of_ble_eq_true rfl) dX18_join_5) (zv_I fun v5 => ?_) (fun q => zx_thr x (fun z hz => (htab z hz).elim) q)
  refine z_icmp_ne (pc := 10) (tgt := 72) x dX18_join_10 rfl (fun _ => ?_) (fun _ => ?_)
  · refine z_aload (pc := 13) x 4 dX18_join_13 rfl ?_
    refine z_call (pc := 15) (z_canSN (pc := 15) (As := [zP a4]) (st := []) x (m_X8_known hl a4) q1160 q774 q142 q775 n_X8_known ⟨by omega, by omega⟩ (Nat.le_of_ble_eq_true rfl) dX18_join_15) (zv_R fun v15 => ?_) (fun q => zx_thr x (fun z hz => (htab z hz).elim) q)
    refine z_astore (pc := 18) (lv' := [(5, zP v15), (0, zP a0), (1, zP a1), (2, zP a2), (3, zI a3), (4, zP a4)]) x dX18_join_18 (Nat.le_of_ble_eq_true rfl) rfl ?_
    refine z_aload_n (pc := 20) x 1 dX18_join_20 rfl rfl ?_
    refine z_aload_n (pc := 21) x 3 dX18_join_21 rfl rfl ?_
    refine z_aload (pc := 22) x 0 dX18_join_22 rfl ?_
    refine z_call (pc := 24) (z_canV (pc := 24) (As := [zP a2, zP v15]) (st := []) x (ci := 24) rfl (fun b => m_X18_holdsRest hl hr_X18_solve hB_X18_solve (some b) a2 v15) q1161 q1163 (z_selP x (ci := 24) rfl (by decide) (zNi_inst x q1064) q1162 q1163) q154 q1164 n_X18_holdsRest ⟨by omega, by omega⟩ (Nat.le_of_ble_eq_true rfl) dX18_join_24) (zv_I fun v24 => ?_) (fun q => zx_thr x (fun z hz => (htab z hz).elim) q)
    refine z_if_eq (pc := 27) (tgt := 71) x dX18_join_27 rfl (fun _ => ?_) (fun _ => ?_)
    · exact z_vret (pc := 71) x hret dX18_join_71
    · refine z_aload_n (pc := 30) x 2 dX18_join_30 rfl rfl ?_
      refine z_aload_n (pc := 31) x 3 dX18_join_31 rfl rfl ?_
      refine z_getN (pc := 32) (fun _ _ h => zAsR_eq h) x in_X25 (ci := 31) rfl (k := 0) (by decide) q2500 (fun _ h => h) dX18_join_32 fun v32 => ?_
      refine z_aload (pc := 35) x 0 dX18_join_35 rfl ?_
      refine z_call (pc := 37) (z_canV (pc := 37) (As := [zP v15]) (st := [zP a1]) x (ci := 37) rfl (fun b => m_X9_code hl (some b) v15) q1185 q800 (x.2.2.2.2.1 _ q801) q143 q802 n_X9_code ⟨by omega, by omega⟩ (Nat.le_of_ble_eq_true rfl) dX18_join_37) (zv_I fun v37 => ?_) (fun q => zx_thr x (fun z hz => (htab z hz).elim) q)
      refine z_call (pc := 40) (z_canV (pc := 40) (As := [zI v37]) (st := []) x (ci := 23) rfl (fun b => m_X17_fits hl (some b) v37) q1136 q1137 (x.2.2.2.2.1 _ q1138) q153 q1139 n_X17_fits ⟨by omega, by omega⟩ (Nat.le_of_ble_eq_true rfl) dX18_join_40) (zv_I fun v40 => ?_) (fun q => zx_thr x (fun z hz => (htab z hz).elim) q)
      refine z_if_eq (pc := 43) (tgt := 71) x dX18_join_43 rfl (fun _ => ?_) (fun _ => ?_)
      · exact z_vret (pc := 71) x hret dX18_join_71
      · refine z_aload_n (pc := 46) x 1 dX18_join_46 rfl rfl ?_
        refine z_dup (pc := 47) x dX18_join_47 rfl ?_
        refine z_get (pc := 48) (fun _ _ h => zAsI_eq h) x in_X18 (ci := 24) rfl (k := 4) (by decide) q1077 (fun _ h => h) dX18_join_48 fun v48 => ?_
        refine z_aload_n (pc := 51) x 2 dX18_join_51 rfl rfl ?_
        refine z_getN (pc := 52) (fun _ _ h => zAsR_eq h) x in_X17 (ci := 23) rfl (k := 3) (by decide) q1123 (fun _ h => h) dX18_join_52 fun v52 => ?_
        refine z_aload_n (pc := 55) x 3 dX18_join_55 rfl rfl ?_
        refine z_getN (pc := 56) (fun _ _ h => zAsR_eq h) x in_X25 (ci := 31) rfl (k := 0) (by decide) q2500 (fun _ h => h) dX18_join_56 fun v56 => ?_
        refine z_aload (pc := 59) x 0 dX18_join_59 rfl ?_
        refine z_call (pc := 61) (z_canV (pc := 61) (As := [zP v15]) (st := [zP v52, zI v48, zP a0]) x (ci := 37) rfl (fun b => m_X9_code hl (some b) v15) q1185 q800 (x.2.2.2.2.1 _ q801) q143 q802 n_X9_code ⟨by omega, by omega⟩ (Nat.le_of_ble_eq_true rfl) dX18_join_61) (zv_I fun v61 => ?_) (fun q => zx_thr x (fun z hz => (htab z hz).elim) q)
        refine z_call (pc := 64) (z_canV (pc := 64) (As := [zI v61]) (st := [zI v48, zP a0]) x (ci := 33) rfl (fun b => m_X5_add hl (some b) v61) q1141 q838 (x.2.2.2.2.1 _ q839) q115 q840 n_X5_add ⟨by omega, by omega⟩ (Nat.le_of_ble_eq_true rfl) dX18_join_64) (zv_I fun v64 => ?_) (fun q => zx_thr x (fun z hz => (htab z hz).elim) q)
        refine z_ior (pc := 67) x dX18_join_67 ?_
        refine z_set_small fun hn hf => ?_
        refine z_set (pc := 68) (v := zI (v48 ||| v64)) x in_X18 tyX18 tyX18_ok nmX18 (ci := 24) rfl (k := 4) (by decide) q1077 (fun _ h => h) rfl hn hf dX18_join_68 ?_
        exact z_vret (pc := 71) x hret dX18_join_71
  · refine z_aload_n (pc := 72) x 2 dX18_join_72 rfl rfl ?_
    refine z_getN (pc := 73) (fun _ _ h => zAsR_eq h) x in_X25 (ci := 31) rfl (k := 2) (by decide) q2510 (fun _ h => h) dX18_join_73 fun v73 => ?_
    refine z_iload_n (pc := 76) x 3 dX18_join_76 rfl rfl ?_
    refine z_call (pc := 77) (z_canIF (pc := 77) (As := [zI a3]) (st := []) (x9 := ⟨"java/util/List", "get", "(I)Ljava/lang/Object;"⟩) x (ci := 10) rfl (fun b => m_J2_get hl (some b) a3) q1145 q845 q844 (by decide) q846 q848 q849 q847 q384 q112 q850 nx_java_util_List_get__I_Ljava_lang_Object_ ⟨by omega, by omega⟩ (Nat.le_of_ble_eq_true rfl) dX18_join_77) (zv_R fun v77 => ?_) (fun q => zx_thr x (fun z hz => (htab z hz).elim) q)
    refine z_csS (pc := 82) x (ci := 37) rfl q1173 dX18_join_82 ?_
    refine z_astore (pc := 85) (lv' := [(5, zP v77), (0, zP a0), (1, zP a1), (2, zP a2), (3, zI a3), (4, zP a4)]) x dX18_join_85 (Nat.le_of_ble_eq_true rfl) rfl ?_
    refine z_aload_n (pc := 87) x 1 dX18_join_87 rfl rfl ?_
    refine z_aload (pc := 88) x 0 dX18_join_88 rfl ?_
    refine z_getN (pc := 90) (fun _ _ h => zAsI_eq h) x in_X9 (ci := 37) rfl (k := 0) (by decide) q2368 (fun _ h => h) dX18_join_90 fun v90 => ?_
    refine z_aload (pc := 93) x 0 dX18_join_93 rfl ?_
    refine z_aload (pc := 95) x 5 dX18_join_95 rfl ?_
    refine z_call (pc := 97) (z_canV (pc := 97) (As := [zP a4]) (st := [zI v90, zP a0]) x (ci := 37) rfl (fun b => m_X9_firstKnown hl (some b) a4) q1186 q1187 (x.2.2.2.2.1 _ q1188) q143 q1189 n_X9_firstKnown ⟨by omega, by omega⟩ (Nat.le_of_ble_eq_true rfl) dX18_join_97) (zv_I fun v97 => ?_) (fun q => zx_thr x (fun z hz => (htab z hz).elim) q)
    refine z_aload (pc := 100) x 0 dX18_join_100 rfl ?_
    refine z_aload (pc := 102) x 5 dX18_join_102 rfl ?_
    refine z_call (pc := 104) (z_canV (pc := 104) (As := [zP a4]) (st := [zI v97, zI v90, zP a0]) x (ci := 37) rfl (fun b => m_X9_secondKnown hl (some b) a4) q1190 q1191 (x.2.2.2.2.1 _ q1192) q143 q1193 n_X9_secondKnown ⟨by omega, by omega⟩ (Nat.le_of_ble_eq_true rfl) dX18_join_104) (zv_I fun v104 => ?_) (fun q => zx_thr x (fun z hz => (htab z hz).elim) q)
    refine z_call (pc := 107) (z_canV (pc := 107) (As := [zI v90, zI v97, zI v104]) (st := []) x (ci := 24) rfl (fun b => m_X18_goal hl (some b) v90 v97 v104) q1093 q1095 (z_selP x (ci := 24) rfl (by decide) (zNi_inst x q1064) q1094 q1095) q154 q1096 n_X18_goal ⟨by omega, by omega⟩ (Nat.le_of_ble_eq_true rfl) dX18_join_107) (zv_R fun v107 => ?_) (fun q => zx_thr x (fun z hz => (htab z hz).elim) q)
    refine z_astore (pc := 110) (lv' := [(6, zP v107), (5, zP v77), (0, zP a0), (1, zP a1), (2, zP a2), (3, zI a3), (4, zP a4)]) x dX18_join_110 (Nat.le_of_ble_eq_true rfl) rfl ?_
    refine z_iconst (pc := 112) x (v := (0 : Int32)) dX18_join_112 rfl ?_
    refine z_istore (pc := 113) (lv' := [(7, zI (0 : Int32)), (6, zP v107), (5, zP v77), (0, zP a0), (1, zP a1), (2, zP a2), (3, zI a3), (4, zP a4)]) x dX18_join_113 (Nat.le_of_ble_eq_true rfl) rfl ?_
    exact z_sub [3, 4, 5, 6, 7, 2, 1, 0] rfl (w_X18_join_115 x hl hret hnm htab hr_X18_solve hr_X18_join hB_X18_solve hle zN a0 a1 a2 a3 a4 v77 v107 (0 : Int32))
def s_X18_join (E : zE) (r_X18_solve : Option Nat → Int32 → Int32 → Int32 → zM) : Nat → Option Nat → Option Nat → Option Nat → Int32 → Option Nat → zM
  | 0, _, _, _, _, _ => zFail
  | n + 1, a0, a1, a2, a3, a4 => s_X18_joinb E r_X18_solve (s_X18_join E r_X18_solve n) a0 a1 a2 a3 a4
theorem m_X18_join {l : Launch} {E : zE} {D : va_G} {tA : Nat → ClassId} (hl : l.stackTraces = false) {fr_X18_solve : Nat} {r_X18_solve : Option Nat → Int32 → Int32 → Int32 → zM} (hr_X18_solve : ∀ (a0 : Option Nat) (a1 : Int32) (a2 : Int32) (a3 : Int32), zMet l E D tA yX18_solve (ws_ yX18_solve cX18_solve 6 (Option.some (Jvm.ClassFile.FieldType.object "BrambleLogic$Codes"))) fr_X18_solve (r_X18_solve a0 a1 a2 a3) [zP a0, zI a1, zI a2, zI a3]) (hB_X18_solve : 200 ≤ fr_X18_solve) : ∀ (n : Nat) (a0 : Option Nat) (a1 : Option Nat) (a2 : Option Nat) (a3 : Int32) (a4 : Option Nat), zMet l E D tA yX18_join (ws_ yX18_join cX18_join 9 (Option.none : Option Jvm.ClassFile.FieldType)) (fr_X18_solve + 3 * n) (s_X18_join E r_X18_solve n a0 a1 a2 a3 a4) [zP a0, zP a1, zP a2, zI a3, zP a4]
  | 0, _, _, _, _, _ => fun h out h2 hf => nomatch hf
  | n + 1, a0, a1, a2, a3, a4 => by
    rw [Nat.mul_succ, ← Nat.add_assoc]
    exact m_X18_joinb hl hr_X18_solve (m_X18_join hl hr_X18_solve hB_X18_solve n) hB_X18_solve (by omega) a0 a1 a2 a3 a4
/-! X18_work -/
def s_X18_work_73 (E : zE) (r_X18_solve : Option Nat → Int32 → Int32 → Int32 → zM) (k13 : Option Nat → Option Nat → Option Nat → zM) (a0 : Option Nat) (a1 : Option Nat) (a2 : Option Nat) : zM := k13 a0 a1 a2
theorem w_X18_work_73 {fr_X18_solve : Nat} {r_X18_solve : Option Nat → Int32 → Int32 → Int32 → zM} (x : zCx p l R s m args meth c E D tA cX18_work 5 yX18_work.cls (fr_X18_solve + 31)) (hl : l.stackTraces = false) (hret : meth.sig.returnType = (Option.none : Option Jvm.ClassFile.FieldType)) (hnm : meth.name = yX18_work.name) (htab : ∀ z ∈ c.exceptionTable.toList, False) (hr_X18_solve : ∀ (a0 : Option Nat) (a1 : Int32) (a2 : Int32) (a3 : Int32), zMet l E D tA yX18_solve (ws_ yX18_solve cX18_solve 6 (Option.some (Jvm.ClassFile.FieldType.object "BrambleLogic$Codes"))) fr_X18_solve (r_X18_solve a0 a1 a2 a3) [zP a0, zI a1, zI a2, zI a3]) (hB_X18_solve : 200 ≤ fr_X18_solve) {k13 : Option Nat → Option Nat → Option Nat → zM} (h13 : ∀ (a0 : Option Nat) (a1 : Option Nat) (a2 : Option Nat) , zW p l e R s m args below meth c E D tA 5 k0 (k13 a0 a1 a2) [(0, zP a0), (1, zP a1), (2, zP a2)] 13 []) (a0 : Option Nat) (a1 : Option Nat) (a2 : Option Nat) : zW p l e R s m args below meth c E D tA 5 k0 (s_X18_work_73 E r_X18_solve k13 a0 a1 a2) [(0, zP a0), (1, zP a1), (2, zP a2)] 73 [] := by
  unfold s_X18_work_73
  refine z_goto (pc := 73) (tgt := 13) x dX18_work_73 rfl ?_
  exact z_sub [0, 1, 2] rfl (h13 a0 a1 a2)
def s_X18_work_13 (E : zE) (r_X18_solve : Option Nat → Int32 → Int32 → Int32 → zM) : Nat → Option Nat → Option Nat → Option Nat → zM
  | 0, _, _, _ => zFail
  | n + 1, a0, a1, a2 => zC (zRv a2 [(11, fun b => s_J22_hasNext E (some b))]) zThr (zKI (fun v14 => if v14 = 0 then (zRet none) else (zC (zRv a2 [(11, fun b => s_J22_next E (some b))]) zThr (zKR (fun v23 => zCsS 31 v23 (zC (s_X8_unknown E) zThr (zKR (fun v32 => zGetR v23 31 0 (fun v38 => zGetI v38 37 0 (fun v41 => zGetI a1 23 0 (fun v45 => if v41 = v45 then (zGetR v23 31 0 (fun v52 => zC (s_X18_bindHead E v52 a1 v32) zThr (zKI (fun v58 => if v58 = 0 then (s_X18_work_73 E r_X18_solve (s_X18_work_13 E r_X18_solve n) a0 a1 a2) else (zC (zRv a0 [(24, fun b => s_X18_join E r_X18_solve 10 (some b) a1 v23 (0 : Int32) v32)]) zThr (zKV (s_X18_work_73 E r_X18_solve (s_X18_work_13 E r_X18_solve n) a0 a1 a2))))))) else (s_X18_work_73 E r_X18_solve (s_X18_work_13 E r_X18_solve n) a0 a1 a2))))))))))))
theorem w_X18_work_13 {fr_X18_solve : Nat} {r_X18_solve : Option Nat → Int32 → Int32 → Int32 → zM} (x : zCx p l R s m args meth c E D tA cX18_work 5 yX18_work.cls (fr_X18_solve + 31)) (hl : l.stackTraces = false) (hret : meth.sig.returnType = (Option.none : Option Jvm.ClassFile.FieldType)) (hnm : meth.name = yX18_work.name) (htab : ∀ z ∈ c.exceptionTable.toList, False) (hr_X18_solve : ∀ (a0 : Option Nat) (a1 : Int32) (a2 : Int32) (a3 : Int32), zMet l E D tA yX18_solve (ws_ yX18_solve cX18_solve 6 (Option.some (Jvm.ClassFile.FieldType.object "BrambleLogic$Codes"))) fr_X18_solve (r_X18_solve a0 a1 a2 a3) [zP a0, zI a1, zI a2, zI a3]) (hB_X18_solve : 200 ≤ fr_X18_solve) : ∀ (n : Nat) (a0 : Option Nat) (a1 : Option Nat) (a2 : Option Nat), zW p l e R s m args below meth c E D tA 5 k0 (s_X18_work_13 E r_X18_solve n a0 a1 a2) [(0, zP a0), (1, zP a1), (2, zP a2)] 13 [] := by
  intro n
  induction n with
  | zero => intro a0 a1 a2; exact z_fail
  | succ n h13 =>
    intro a0 a1 a2
    rw [s_X18_work_13]
    refine z_aload_n (pc := 13) x 2 dX18_work_13 rfl rfl ?_
    refine z_call (pc := 14) (z_canIF (pc := 14) (As := []) (st := []) (x9 := ⟨"java/util/Iterator", "hasNext", "()Z"⟩) x (ci := 11) rfl (fun b => m_J22_hasNext hl (some b)) q1100 q413 q412 (by decide) q415 q417 q418 q416 q414 q139 q419 nx_java_util_Iterator_hasNext___Z ⟨by omega, by omega⟩ (Nat.le_of_ble_eq_true rfl) dX18_work_14) (zv_I fun v14 => ?_) (fun q => zx_thr x (fun z hz => (htab z hz).elim) q)
    refine z_if_eq (pc := 19) (tgt := 76) x dX18_work_19 rfl (fun _ => ?_) (fun _ => ?_)
    · exact z_vret (pc := 76) x hret dX18_work_76
    · refine z_aload_n (pc := 22) x 2 dX18_work_22 rfl rfl ?_
      refine z_call (pc := 23) (z_canIF (pc := 23) (As := []) (st := []) (x9 := ⟨"java/util/Iterator", "next", "()Ljava/lang/Object;"⟩) x (ci := 11) rfl (fun b => m_J22_next hl (some b)) q1102 q423 q422 (by decide) q424 q426 q427 q425 q414 q139 q428 nx_java_util_Iterator_next___Ljava_lang_Object_ ⟨by omega, by omega⟩ (Nat.le_of_ble_eq_true rfl) dX18_work_23) (zv_R fun v23 => ?_) (fun q => zx_thr x (fun z hz => (htab z hz).elim) q)
      refine z_csS (pc := 28) x (ci := 31) rfl q1150 dX18_work_28 ?_
      refine z_astore_n (pc := 31) (lv' := [(3, zP v23), (0, zP a0), (1, zP a1), (2, zP a2)]) x dX18_work_31 rfl (Nat.le_of_ble_eq_true rfl) rfl ?_
      refine z_call (pc := 32) (z_canSN (pc := 32) (As := []) (st := []) x (m_X8_unknown hl) q1151 q758 q142 q759 n_X8_unknown ⟨by omega, by omega⟩ (Nat.le_of_ble_eq_true rfl) dX18_work_32) (zv_R fun v32 => ?_) (fun q => zx_thr x (fun z hz => (htab z hz).elim) q)
      refine z_astore (pc := 35) (lv' := [(4, zP v32), (3, zP v23), (0, zP a0), (1, zP a1), (2, zP a2)]) x dX18_work_35 (Nat.le_of_ble_eq_true rfl) rfl ?_
      refine z_aload_n (pc := 37) x 1 dX18_work_37 rfl rfl ?_
      refine z_getN (pc := 38) (fun _ _ h => zAsR_eq h) x in_X25 (ci := 31) rfl (k := 0) (by decide) q2500 (fun _ h => h) dX18_work_38 fun v38 => ?_
      refine z_getN (pc := 41) (fun _ _ h => zAsI_eq h) x in_X9 (ci := 37) rfl (k := 0) (by decide) q2368 (fun _ h => h) dX18_work_41 fun v41 => ?_
      refine z_aload_n (pc := 44) x 3 dX18_work_44 rfl rfl ?_
      refine z_getN (pc := 45) (fun _ _ h => zAsI_eq h) x in_X17 (ci := 23) rfl (k := 0) (by decide) q1116 (fun _ h => h) dX18_work_45 fun v45 => ?_
      refine z_icmp_ne (pc := 48) (tgt := 73) x dX18_work_48 rfl (fun _ => ?_) (fun _ => ?_)
      · refine z_aload_n (pc := 51) x 1 dX18_work_51 rfl rfl ?_
        refine z_getN (pc := 52) (fun _ _ h => zAsR_eq h) x in_X25 (ci := 31) rfl (k := 0) (by decide) q2500 (fun _ h => h) dX18_work_52 fun v52 => ?_
        refine z_aload_n (pc := 55) x 3 dX18_work_55 rfl rfl ?_
        refine z_aload (pc := 56) x 0 dX18_work_56 rfl ?_
        refine z_call (pc := 58) (z_canS (pc := 58) (As := [zP v52, zP a1, zP v32]) (st := []) x (m_X18_bindHead hl v52 a1 v32) q1152 q1153 q154 q1154 n_X18_bindHead ⟨by omega, by omega⟩ (Nat.le_of_ble_eq_true rfl) dX18_work_58) (zv_I fun v58 => ?_) (fun q => zx_thr x (fun z hz => (htab z hz).elim) q)
        refine z_if_eq (pc := 61) (tgt := 73) x dX18_work_61 rfl (fun _ => ?_) (fun _ => ?_)
        · exact z_sub [2, 3, 4] rfl (w_X18_work_73 x hl hret hnm htab hr_X18_solve hB_X18_solve h13 a0 a1 a2)
        · refine z_aload_n (pc := 64) x 2 dX18_work_64 rfl rfl ?_
          refine z_aload_n (pc := 65) x 3 dX18_work_65 rfl rfl ?_
          refine z_aload_n (pc := 66) x 1 dX18_work_66 rfl rfl ?_
          refine z_iconst (pc := 67) x (v := (0 : Int32)) dX18_work_67 rfl ?_
          refine z_aload (pc := 68) x 0 dX18_work_68 rfl ?_
          refine z_call (pc := 70) (z_canV (pc := 70) (As := [zP a1, zP v23, zI (0 : Int32), zP v32]) (st := []) x (ci := 24) rfl (fun b => m_X18_join hl hr_X18_solve hB_X18_solve 10 (some b) a1 v23 (0 : Int32) v32) q1156 q1158 (z_selP x (ci := 24) rfl (by decide) (zNi_inst x q1064) q1157 q1158) q154 q1159 n_X18_join ⟨by omega, by omega⟩ (Nat.le_of_ble_eq_true rfl) dX18_work_70) (zv_V ?_) (fun q => zx_thr x (fun z hz => (htab z hz).elim) q)
          exact z_sub [2, 3, 4] rfl (w_X18_work_73 x hl hret hnm htab hr_X18_solve hB_X18_solve h13 a0 a1 a2)
      · exact z_sub [2, 3, 4] rfl (w_X18_work_73 x hl hret hnm htab hr_X18_solve hB_X18_solve h13 a0 a1 a2)
def s_X18_work (E : zE) (r_X18_solve : Option Nat → Int32 → Int32 → Int32 → zM) (a0 : Option Nat) (a1 : Option Nat) : zM := zGetR a0 24 0 (fun v1 => zGetR v1 26 1 (fun v4 => zC (zRv v4 [(10, fun b => s_J2_iterator E (some b))]) zThr (zKR (fun v7 => s_X18_work_13 E r_X18_solve zN a0 a1 v7))))
theorem m_X18_work {l : Launch} {E : zE} {D : va_G} {tA : Nat → ClassId} (hl : l.stackTraces = false) {fr_X18_solve : Nat} {r_X18_solve : Option Nat → Int32 → Int32 → Int32 → zM} (hr_X18_solve : ∀ (a0 : Option Nat) (a1 : Int32) (a2 : Int32) (a3 : Int32), zMet l E D tA yX18_solve (ws_ yX18_solve cX18_solve 6 (Option.some (Jvm.ClassFile.FieldType.object "BrambleLogic$Codes"))) fr_X18_solve (r_X18_solve a0 a1 a2 a3) [zP a0, zI a1, zI a2, zI a3]) (hB_X18_solve : 200 ≤ fr_X18_solve) (a0 : Option Nat) (a1 : Option Nat) : zMet l E D tA yX18_work (ws_ yX18_work cX18_work 5 (Option.none : Option Jvm.ClassFile.FieldType)) (fr_X18_solve + 31) (s_X18_work E r_X18_solve a0 a1) [zP a0, zP a1] := by
  refine z_met hl (by decide +kernel) (by rw [zSl_len]; exact (Nat.le_of_ble_eq_true rfl)) fun p e R s m args below meth c k0 x hret hnm htab => ?_
  refine z_lv [(0, zP a0), (1, zP a1)] rfl ?_
  unfold s_X18_work
  refine z_aload_n (pc := 0) x 0 dX18_work_0 rfl rfl ?_
  refine z_get (pc := 1) (fun _ _ h => zAsR_eq h) x in_X18 (ci := 24) rfl (k := 0) (by decide) q1073 (fun _ h => h) dX18_work_1 fun v1 => ?_
  refine z_getN (pc := 4) (fun _ _ h => zAsR_eq h) x in_X2 (ci := 26) rfl (k := 1) (by decide) q254 (fun _ h => h) dX18_work_4 fun v4 => ?_
  refine z_call (pc := 7) (z_canIF (pc := 7) (As := []) (st := []) (x9 := ⟨"java/util/List", "iterator", "()Ljava/util/Iterator;"⟩) x (ci := 10) rfl (fun b => m_J2_iterator hl (some b)) q1098 q383 q382 (by decide) q385 q387 q388 q386 q384 q112 q389 nx_java_util_List_iterator___Ljava_util_Iterator_ ⟨by omega, by omega⟩ (Nat.le_of_ble_eq_true rfl) dX18_work_7) (zv_R fun v7 => ?_) (fun q => zx_thr x (fun z hz => (htab z hz).elim) q)
  refine z_astore_n (pc := 12) (lv' := [(2, zP v7), (0, zP a0), (1, zP a1)]) x dX18_work_12 rfl (Nat.le_of_ble_eq_true rfl) rfl ?_
  exact z_sub [1, 2, 0] rfl (w_X18_work_13 x hl hret hnm htab hr_X18_solve hB_X18_solve zN a0 a1 v7)
/-! X18_solve -/
def s_X18_solve_29 (E : zE) (r_X18_solve : Option Nat → Int32 → Int32 → Int32 → zM) (k14 : Option Nat → Option Nat → zM) : Nat → Option Nat → Option Nat → Int32 → zM
  | 0, _, _, _ => zFail
  | n + 1, a0, a4, a5 => zGetR a0 24 1 (fun v32 => zC (zRv v32 [(10, fun b => s_J2_size E (some b))]) zThr (zKI (fun v35 => if v35 ≤ a5 then (k14 a0 a4) else (zGetR a0 24 1 (fun v45 => zC (zRv v45 [(10, fun b => s_J2_get E (some b) a5)]) zThr (zKR (fun v50 => zCsS 23 v50 (zC (zRv a0 [(24, fun b => s_X18_work E r_X18_solve (some b) v50)]) zThr (zKV ((s_X18_solve_29 E r_X18_solve k14 n) a0 a4 (a5 + (1 : Int32))))))))))))
theorem w_X18_solve_29 {fr_X18_solve : Nat} {r_X18_solve : Option Nat → Int32 → Int32 → Int32 → zM} (x : zCx p l R s m args meth c E D tA cX18_solve 6 yX18_solve.cls (fr_X18_solve + 32)) (hl : l.stackTraces = false) (hret : meth.sig.returnType = (Option.some (Jvm.ClassFile.FieldType.object "BrambleLogic$Codes"))) (hnm : meth.name = yX18_solve.name) (htab : ∀ z ∈ c.exceptionTable.toList, False) (hr_X18_solve : ∀ (a0 : Option Nat) (a1 : Int32) (a2 : Int32) (a3 : Int32), zMet l E D tA yX18_solve (ws_ yX18_solve cX18_solve 6 (Option.some (Jvm.ClassFile.FieldType.object "BrambleLogic$Codes"))) fr_X18_solve (r_X18_solve a0 a1 a2 a3) [zP a0, zI a1, zI a2, zI a3]) (hB_X18_solve : 200 ≤ fr_X18_solve) {k14 : Option Nat → Option Nat → zM} (h14 : ∀ (a0 : Option Nat) (a4 : Option Nat) , zW p l e R s m args below meth c E D tA 6 k0 (k14 a0 a4) [(0, zP a0), (4, zP a4)] 14 []) : ∀ (n : Nat) (a0 : Option Nat) (a4 : Option Nat) (a5 : Int32), zW p l e R s m args below meth c E D tA 6 k0 (s_X18_solve_29 E r_X18_solve k14 n a0 a4 a5) [(0, zP a0), (4, zP a4), (5, zI a5)] 29 [] := by
  intro n
  induction n with
  | zero => intro a0 a4 a5; exact z_fail
  | succ n h29 =>
    intro a0 a4 a5
    rw [s_X18_solve_29]
    refine z_iload (pc := 29) x 2 dX18_solve_29 rfl ?_
    refine z_aload_n (pc := 31) x 0 dX18_solve_31 rfl rfl ?_
    refine z_get (pc := 32) (fun _ _ h => zAsR_eq h) x in_X18 (ci := 24) rfl (k := 1) (by decide) q1074 (fun _ h => h) dX18_solve_32 fun v32 => ?_
    refine z_call (pc := 35) (z_canIF (pc := 35) (As := []) (st := [zI a5]) (x9 := ⟨"java/util/List", "size", "()I"⟩) x (ci := 10) rfl (fun b => m_J2_size hl (some b)) q1143 q767 q766 (by decide) q768 q770 q771 q769 q384 q112 q772 nx_java_util_List_size___I ⟨by omega, by omega⟩ (Nat.le_of_ble_eq_true rfl) dX18_solve_35) (zv_I fun v35 => ?_) (fun q => zx_thr x (fun z hz => (htab z hz).elim) q)
    refine z_icmp_ge (pc := 40) (tgt := 67) x dX18_solve_40 rfl (fun _ => ?_) (fun _ => ?_)
    · refine z_goto (pc := 67) (tgt := 14) x dX18_solve_67 rfl ?_
      exact z_sub [0, 1] rfl (h14 a0 a4)
    · refine z_aload_n (pc := 43) x 0 dX18_solve_43 rfl rfl ?_
      refine z_aload_n (pc := 44) x 0 dX18_solve_44 rfl rfl ?_
      refine z_get (pc := 45) (fun _ _ h => zAsR_eq h) x in_X18 (ci := 24) rfl (k := 1) (by decide) q1074 (fun _ h => h) dX18_solve_45 fun v45 => ?_
      refine z_iload (pc := 48) x 2 dX18_solve_48 rfl ?_
      refine z_call (pc := 50) (z_canIF (pc := 50) (As := [zI a5]) (st := [zP a0]) (x9 := ⟨"java/util/List", "get", "(I)Ljava/lang/Object;"⟩) x (ci := 10) rfl (fun b => m_J2_get hl (some b) a5) q1145 q845 q844 (by decide) q846 q848 q849 q847 q384 q112 q850 nx_java_util_List_get__I_Ljava_lang_Object_ ⟨by omega, by omega⟩ (Nat.le_of_ble_eq_true rfl) dX18_solve_50) (zv_R fun v50 => ?_) (fun q => zx_thr x (fun z hz => (htab z hz).elim) q)
      refine z_csS (pc := 55) x (ci := 23) rfl q1103 dX18_solve_55 ?_
      refine z_call (pc := 58) (z_canV (pc := 58) (As := [zP v50]) (st := []) x (ci := 24) rfl (fun b => m_X18_work hl hr_X18_solve hB_X18_solve (some b) v50) q1146 q1148 (z_selP x (ci := 24) rfl (by decide) (zNi_inst x q1064) q1147 q1148) q154 q1149 n_X18_work ⟨by omega, by omega⟩ (Nat.le_of_ble_eq_true rfl) dX18_solve_58) (zv_V ?_) (fun q => zx_thr x (fun z hz => (htab z hz).elim) q)
      refine z_iinc (pc := 61) (lv' := [(5, zI (a5 + (1 : Int32))), (0, zP a0), (4, zP a4)]) x (v2 := (a5 + (1 : Int32))) 2 dX18_solve_61 rfl rfl (Nat.le_of_ble_eq_true rfl) rfl ?_
      refine z_goto (pc := 64) (tgt := 29) x dX18_solve_64 rfl ?_
      exact z_sub [1, 2, 0] rfl (h29 a0 a4 (a5 + (1 : Int32)))
def s_X18_solve_14 (E : zE) (r_X18_solve : Option Nat → Int32 → Int32 → Int32 → zM) : Nat → Option Nat → Option Nat → zM
  | 0, _, _ => zFail
  | n + 1, a0, a4 => zGetI a0 24 4 (fun v15 => if v15 = 0 then (zGetR a4 23 3 (fun v72 => zRet (some (va_rf v72)))) else (zSetN E .boolean a0 24 4 (0 : Int32) (s_X18_solve_29 E r_X18_solve (s_X18_solve_14 E r_X18_solve n) zN a0 a4 (0 : Int32))))
theorem w_X18_solve_14 {fr_X18_solve : Nat} {r_X18_solve : Option Nat → Int32 → Int32 → Int32 → zM} (x : zCx p l R s m args meth c E D tA cX18_solve 6 yX18_solve.cls (fr_X18_solve + 32)) (hl : l.stackTraces = false) (hret : meth.sig.returnType = (Option.some (Jvm.ClassFile.FieldType.object "BrambleLogic$Codes"))) (hnm : meth.name = yX18_solve.name) (htab : ∀ z ∈ c.exceptionTable.toList, False) (hr_X18_solve : ∀ (a0 : Option Nat) (a1 : Int32) (a2 : Int32) (a3 : Int32), zMet l E D tA yX18_solve (ws_ yX18_solve cX18_solve 6 (Option.some (Jvm.ClassFile.FieldType.object "BrambleLogic$Codes"))) fr_X18_solve (r_X18_solve a0 a1 a2 a3) [zP a0, zI a1, zI a2, zI a3]) (hB_X18_solve : 200 ≤ fr_X18_solve) : ∀ (n : Nat) (a0 : Option Nat) (a4 : Option Nat), zW p l e R s m args below meth c E D tA 6 k0 (s_X18_solve_14 E r_X18_solve n a0 a4) [(0, zP a0), (4, zP a4)] 14 [] := by
  intro n
  induction n with
  | zero => intro a0 a4; exact z_fail
  | succ n h14 =>
    intro a0 a4
    rw [s_X18_solve_14]
    refine z_aload_n (pc := 14) x 0 dX18_solve_14 rfl rfl ?_
    refine z_get (pc := 15) (fun _ _ h => zAsI_eq h) x in_X18 (ci := 24) rfl (k := 4) (by decide) q1077 (fun _ h => h) dX18_solve_15 fun v15 => ?_
    refine z_if_eq (pc := 18) (tgt := 70) x dX18_solve_18 rfl (fun _ => ?_) (fun _ => ?_)
    · refine z_aload (pc := 70) x 1 dX18_solve_70 rfl ?_
      refine z_getN (pc := 72) (fun _ _ h => zAsR_eq h) x in_X17 (ci := 23) rfl (k := 3) (by decide) q1123 (fun _ h => h) dX18_solve_72 fun v72 => ?_
      exact z_aret (pc := 75) x hret (Or.inl ⟨_, rfl⟩) dX18_solve_75
    · refine z_aload_n (pc := 21) x 0 dX18_solve_21 rfl rfl ?_
      refine z_iconst (pc := 22) x (v := (0 : Int32)) dX18_solve_22 rfl ?_
      refine z_set_small fun hn hf => ?_
      refine z_set (pc := 23) (v := zI (0 : Int32)) x in_X18 tyX18 tyX18_ok nmX18 (ci := 24) rfl (k := 4) (by decide) q1077 (fun _ h => h) rfl hn hf dX18_solve_23 ?_
      refine z_iconst (pc := 26) x (v := (0 : Int32)) dX18_solve_26 rfl ?_
      refine z_istore (pc := 27) (lv' := [(5, zI (0 : Int32)), (0, zP a0), (4, zP a4)]) x dX18_solve_27 (Nat.le_of_ble_eq_true rfl) rfl ?_
      exact z_sub [1, 2, 0] rfl (w_X18_solve_29 x hl hret hnm htab hr_X18_solve hB_X18_solve h14 zN a0 a4 (0 : Int32))
def s_X18_solveb (E : zE) (r_X18_solve : Option Nat → Int32 → Int32 → Int32 → zM) (a0 : Option Nat) (a1 : Int32) (a2 : Int32) (a3 : Int32) : zM := zC (zRv a0 [(24, fun b => s_X18_goal E (some b) a1 a2 a3)]) zThr (zKR (fun v4 => zSetN E .boolean a0 24 4 (1 : Int32) (s_X18_solve_14 E r_X18_solve zN a0 v4)))
theorem m_X18_solveb {l : Launch} {E : zE} {D : va_G} {tA : Nat → ClassId} (hl : l.stackTraces = false) {fr_X18_solve : Nat} {r_X18_solve : Option Nat → Int32 → Int32 → Int32 → zM} (hr_X18_solve : ∀ (a0 : Option Nat) (a1 : Int32) (a2 : Int32) (a3 : Int32), zMet l E D tA yX18_solve (ws_ yX18_solve cX18_solve 6 (Option.some (Jvm.ClassFile.FieldType.object "BrambleLogic$Codes"))) fr_X18_solve (r_X18_solve a0 a1 a2 a3) [zP a0, zI a1, zI a2, zI a3]) (hB_X18_solve : 200 ≤ fr_X18_solve) (a0 : Option Nat) (a1 : Int32) (a2 : Int32) (a3 : Int32) : zMet l E D tA yX18_solve (ws_ yX18_solve cX18_solve 6 (Option.some (Jvm.ClassFile.FieldType.object "BrambleLogic$Codes"))) (fr_X18_solve + 32) (s_X18_solveb E r_X18_solve a0 a1 a2 a3) [zP a0, zI a1, zI a2, zI a3] := by
  refine z_met hl (by decide +kernel) (by rw [zSl_len]; exact (Nat.le_of_ble_eq_true rfl)) fun p e R s m args below meth c k0 x hret hnm htab => ?_
  refine z_lv [(0, zP a0), (1, zI a1), (2, zI a2), (3, zI a3)] rfl ?_
  unfold s_X18_solveb
  refine z_aload_n (pc := 0) x 0 dX18_solve_0 rfl rfl ?_
  refine z_iload_n (pc := 1) x 1 dX18_solve_1 rfl rfl ?_
  refine z_iload_n (pc := 2) x 2 dX18_solve_2 rfl rfl ?_
  refine z_iload_n (pc := 3) x 3 dX18_solve_3 rfl rfl ?_
  refine z_call (pc := 4) (z_canV (pc := 4) (As := [zI a1, zI a2, zI a3]) (st := []) x (ci := 24) rfl (fun b => m_X18_goal hl (some b) a1 a2 a3) q1093 q1095 (z_selP x (ci := 24) rfl (by decide) (zNi_inst x q1064) q1094 q1095) q154 q1096 n_X18_goal ⟨by omega, by omega⟩ (Nat.le_of_ble_eq_true rfl) dX18_solve_4) (zv_R fun v4 => ?_) (fun q => zx_thr x (fun z hz => (htab z hz).elim) q)
  refine z_astore (pc := 7) (lv' := [(4, zP v4), (0, zP a0), (1, zI a1), (2, zI a2), (3, zI a3)]) x dX18_solve_7 (Nat.le_of_ble_eq_true rfl) rfl ?_
  refine z_aload_n (pc := 9) x 1 dX18_solve_9 rfl rfl ?_
  refine z_iconst (pc := 10) x (v := (1 : Int32)) dX18_solve_10 rfl ?_
  refine z_set_small fun hn hf => ?_
  refine z_set (pc := 11) (v := zI (1 : Int32)) x in_X18 tyX18 tyX18_ok nmX18 (ci := 24) rfl (k := 4) (by decide) q1077 (fun _ h => h) rfl hn hf dX18_solve_11 ?_
  exact z_sub [1, 0] rfl (w_X18_solve_14 x hl hret hnm htab hr_X18_solve hB_X18_solve zN a0 v4)
def s_X18_solve (E : zE) : Nat → Option Nat → Int32 → Int32 → Int32 → zM
  | 0, _, _, _, _ => zFail
  | n + 1, a0, a1, a2, a3 => s_X18_solveb E (s_X18_solve E n) a0 a1 a2 a3
theorem m_X18_solve {l : Launch} {E : zE} {D : va_G} {tA : Nat → ClassId} (hl : l.stackTraces = false) : ∀ (n : Nat) (a0 : Option Nat) (a1 : Int32) (a2 : Int32) (a3 : Int32), zMet l E D tA yX18_solve (ws_ yX18_solve cX18_solve 6 (Option.some (Jvm.ClassFile.FieldType.object "BrambleLogic$Codes"))) (200 + 32 * n) (s_X18_solve E n a0 a1 a2 a3) [zP a0, zI a1, zI a2, zI a3]
  | 0, _, _, _, _ => fun h out h2 hf => nomatch hf
  | n + 1, a0, a1, a2, a3 => by
    rw [Nat.mul_succ, ← Nat.add_assoc]
    exact m_X18_solveb hl (m_X18_solve hl n) (by omega) a0 a1 a2 a3
/-! X1_answersByGoals -/
def s_X1_answersByGoals (E : zE) (a0 : Option Nat) (a1 : Int32) (a2 : Int32) (a3 : Int32) : zM := zC (s_X1_requireGoal E a1 a2 a3) zThr (zKI (fun v3 => zNew 24 5 [.null, .null, .null, .int 0, .int 0] (fun v8 => zGetR a0 16 0 (fun v13 => zC (zSp v8 (fun b => s_X18_init E (some b) v13)) zThr (zKV (zC (zRv v8 [(24, fun b => s_X18_solve E 10 (some b) v3 a2 a3)]) zThr (zKR (fun v23 => zC (zRv v23 [(33, fun b => s_X5_count E (some b))]) zThr (zKI (fun v26 => zRet (some (.int v26))))))))))))
theorem m_X1_answersByGoals {l : Launch} {E : zE} {D : va_G} {tA : Nat → ClassId} (hl : l.stackTraces = false) (a0 : Option Nat) (a1 : Int32) (a2 : Int32) (a3 : Int32) : zMet l E D tA yX1_answersByGoals (ws_ yX1_answersByGoals cX1_answersByGoals 5 (Option.some Jvm.ClassFile.FieldType.int)) 521 (s_X1_answersByGoals E a0 a1 a2 a3) [zP a0, zI a1, zI a2, zI a3] := by
  refine z_met hl (by decide +kernel) (by rw [zSl_len]; exact (Nat.le_of_ble_eq_true rfl)) fun p e R s m args below meth c k0 x hret hnm htab => ?_
  refine z_lv [(0, zP a0), (1, zI a1), (2, zI a2), (3, zI a3)] rfl ?_
  unfold s_X1_answersByGoals
  refine z_iload_n (pc := 0) x 1 dX1_answersByGoals_0 rfl rfl ?_
  refine z_iload_n (pc := 1) x 2 dX1_answersByGoals_1 rfl rfl ?_
  refine z_iload_n (pc := 2) x 3 dX1_answersByGoals_2 rfl rfl ?_
  refine z_call (pc := 3) (z_canS (pc := 3) (As := [zI a1, zI a2, zI a3]) (st := []) x (m_X1_requireGoal hl a1 a2 a3) q1924 q1925 q108 q1926 n_X1_requireGoal ⟨by decide, by decide⟩ (Nat.le_of_ble_eq_true rfl) dX1_answersByGoals_3) (zv_I fun v3 => ?_) (fun q => zx_thr x (fun z hz => (htab z hz).elim) q)
  refine z_istore (pc := 6) (lv' := [(4, zI v3), (0, zP a0), (1, zI a1), (2, zI a2), (3, zI a3)]) x dX1_answersByGoals_6 (Nat.le_of_ble_eq_true rfl) rfl ?_
  refine z_new (pc := 8) x in_X18 tyX18 tyX18_ok q1941 q1064 q154 (ci := 24) rfl (by decide) (by decide +kernel) dX1_answersByGoals_8 fun v8 => ?_
  refine z_dup (pc := 11) x dX1_answersByGoals_11 rfl ?_
  refine z_aload_n (pc := 12) x 1 dX1_answersByGoals_12 rfl rfl ?_
  refine z_get (pc := 13) (fun _ _ h => zAsR_eq h) x in_X1 (ci := 16) rfl (k := 0) (by decide) q320 (fun _ h => h) dX1_answersByGoals_13 fun v13 => ?_
  refine z_call (pc := 16) (z_canI (pc := 16) (ret := none) (As := [zP v13]) (st := [zP v8]) x (fun b => m_X18_init hl (some b) v13) q1942 rfl q1066 q154 q1067 n_X18_init ⟨by decide, by decide⟩ (Nat.le_of_ble_eq_true rfl) dX1_answersByGoals_16) (zv_V ?_) (fun q => zx_thr x (fun z hz => (htab z hz).elim) q)
  refine z_iload (pc := 19) x 0 dX1_answersByGoals_19 rfl ?_
  refine z_iload_n (pc := 21) x 3 dX1_answersByGoals_21 rfl rfl ?_
  refine z_iload_n (pc := 22) x 4 dX1_answersByGoals_22 rfl rfl ?_
  refine z_call (pc := 23) (z_canV (pc := 23) (As := [zI v3, zI a2, zI a3]) (st := []) x (ci := 24) rfl (fun b => m_X18_solve hl 10 (some b) v3 a2 a3) q1943 q1090 (x.2.2.2.2.1 _ q1091) q154 q1092 n_X18_solve ⟨by omega, by omega⟩ (Nat.le_of_ble_eq_true rfl) dX1_answersByGoals_23) (zv_R fun v23 => ?_) (fun q => zx_thr x (fun z hz => (htab z hz).elim) q)
  refine z_call (pc := 26) (z_canV (pc := 26) (As := []) (st := []) x (ci := 33) rfl (fun b => m_X5_count hl (some b)) q1764 q355 (x.2.2.2.2.1 _ q356) q115 q357 n_X5_count ⟨by decide, by decide⟩ (Nat.le_of_ble_eq_true rfl) dX1_answersByGoals_26) (zv_I fun v26 => ?_) (fun q => zx_thr x (fun z hz => (htab z hz).elim) q)
  exact z_iret (pc := 29) x hret dX1_answersByGoals_29
/-! X0_answersByGoals -/
def s_X0_answersByGoals_15 (E : zE) (b0 : Option Nat) : zM := zRet (some (.int (1 : Int32)))
theorem w_X0_answersByGoals_15 (x : zCx p l R s m args meth c E D tA cX0_answersByGoals 6 yX0_answersByGoals.cls 522) (hl : l.stackTraces = false) (hret : meth.sig.returnType = (Option.some Jvm.ClassFile.FieldType.int)) (hnm : meth.name = yX0_answersByGoals.name) (htab : c.exceptionTable.toList = tableOf [(0, 12, 15, 13)]) (b0 : Option Nat) : zW p l e R s m args below meth c E D tA 6 k0 (s_X0_answersByGoals_15 E b0) [] 15 [zP b0] := by
  unfold s_X0_answersByGoals_15
  refine z_astore (pc := 15) (lv' := [(5, zP b0)]) x dX0_answersByGoals_15 (Nat.le_of_ble_eq_true rfl) rfl ?_
  refine z_iconst (pc := 17) x (v := (1 : Int32)) dX0_answersByGoals_17 rfl ?_
  exact z_iret (pc := 18) x hret dX0_answersByGoals_18
def s_X0_answersByGoals (E : zE) (a0 : Option Nat) (a1 : Int32) (a2 : Int32) (a3 : Int32) (a4 : Option Nat) : zM := zC (zRv a0 [(16, fun b => s_X1_answersByGoals E (some b) a1 a2 a3)]) (fun q => zCat1 q [(0, s_X0_answersByGoals_15 E (some q))]) (zKI (fun v7 => zSaL E 3 a4 (0 : Int32) ((v7).toInt64) (zRet (some (.int (0 : Int32))))))
theorem m_X0_answersByGoals {l : Launch} {E : zE} {D : va_G} {tA : Nat → ClassId} (hl : l.stackTraces = false) (a0 : Option Nat) (a1 : Int32) (a2 : Int32) (a3 : Int32) (a4 : Option Nat) : zMet l E D tA yX0_answersByGoals (wsW_ yX0_answersByGoals cX0_answersByGoals 6 (Option.some Jvm.ClassFile.FieldType.int) [(0, 12, 15, 13)]) 522 (s_X0_answersByGoals E a0 a1 a2 a3 a4) [zP a0, zI a1, zI a2, zI a3, zP a4] := by
  refine z_metW hl (by decide +kernel) (by rw [zSl_len]; exact (Nat.le_of_ble_eq_true rfl)) fun p e R s m args below meth c k0 x hret hnm htab => ?_
  refine z_lv [(0, zP a0), (1, zI a1), (2, zI a2), (3, zI a3), (4, zP a4)] rfl ?_
  unfold s_X0_answersByGoals
  refine z_aload (pc := 0) x 4 dX0_answersByGoals_0 rfl ?_
  refine z_iconst (pc := 2) x (v := (0 : Int32)) dX0_answersByGoals_2 rfl ?_
  refine z_aload_n (pc := 3) x 0 dX0_answersByGoals_3 rfl rfl ?_
  refine z_iload_n (pc := 4) x 1 dX0_answersByGoals_4 rfl rfl ?_
  refine z_iload_n (pc := 5) x 2 dX0_answersByGoals_5 rfl rfl ?_
  refine z_iload_n (pc := 6) x 3 dX0_answersByGoals_6 rfl rfl ?_
  refine z_call (pc := 7) (z_canV (pc := 7) (As := [zI a1, zI a2, zI a3]) (st := [zI (0 : Int32), zP a4]) x (ci := 16) rfl (fun b => m_X1_answersByGoals hl (some b) a1 a2 a3) q1937 q1938 (x.2.2.2.2.1 _ q1939) q108 q1940 n_X1_answersByGoals ⟨by decide, by decide⟩ (Nat.le_of_ble_eq_true rfl) dX0_answersByGoals_7) (zv_I fun v7 => ?_) (fun q => zx_cat x [(0, s_X0_answersByGoals_15 E (some q), ⟨0, 12, 15, 13⟩)] htab (List.forall_mem_cons.mpr ⟨⟨rfl, (show (13 : Nat) ≠ 0 by decide), q1462, z_sub [] rfl (w_X0_answersByGoals_15 x hl hret hnm htab (some q))⟩, (fun _ hj => nomatch hj)⟩))
  refine z_i2l (pc := 10) x dX0_answersByGoals_10 ?_
  refine z_last (pc := 11) x (t := 3) rfl dX0_answersByGoals_11 ?_
  refine z_goto (pc := 12) (tgt := 19) x dX0_answersByGoals_12 rfl ?_
  refine z_iconst (pc := 19) x (v := (0 : Int32)) dX0_answersByGoals_19 rfl ?_
  exact z_iret (pc := 20) x hret dX0_answersByGoals_20
/-! X2_answerAt -/
def s_X2_answerAt_56 (E : zE) (k8 : Option Nat → Option Nat → Int32 → Int32 → Int32 → Int32 → zM) (a0 : Option Nat) (a1 : Option Nat) (a2 : Int32) (a3 : Int32) (a4 : Int32) (a5 : Int32) : zM := k8 a0 a1 a2 a3 a4 (a5 + (1 : Int32))
theorem w_X2_answerAt_56 (x : zCx p l R s m args meth c E D tA cX2_answerAt 6 yX2_answerAt.cls 73) (hl : l.stackTraces = false) (hret : meth.sig.returnType = (Option.some Jvm.ClassFile.FieldType.int)) (hnm : meth.name = yX2_answerAt.name) (htab : ∀ z ∈ c.exceptionTable.toList, False) {k8 : Option Nat → Option Nat → Int32 → Int32 → Int32 → Int32 → zM} (h8 : ∀ (a0 : Option Nat) (a1 : Option Nat) (a2 : Int32) (a3 : Int32) (a4 : Int32) (a5 : Int32) , zW p l e R s m args below meth c E D tA 6 k0 (k8 a0 a1 a2 a3 a4 a5) [(0, zP a0), (1, zP a1), (2, zI a2), (3, zI a3), (4, zI a4), (5, zI a5)] 8 []) (a0 : Option Nat) (a1 : Option Nat) (a2 : Int32) (a3 : Int32) (a4 : Int32) (a5 : Int32) : zW p l e R s m args below meth c E D tA 6 k0 (s_X2_answerAt_56 E k8 a0 a1 a2 a3 a4 a5) [(0, zP a0), (1, zP a1), (2, zI a2), (3, zI a3), (4, zI a4), (5, zI a5)] 56 [] := by
  unfold s_X2_answerAt_56
  refine z_iinc (pc := 56) (lv' := [(5, zI (a5 + (1 : Int32))), (0, zP a0), (1, zP a1), (2, zI a2), (3, zI a3), (4, zI a4)]) x (v2 := (a5 + (1 : Int32))) 5 dX2_answerAt_56 rfl rfl (Nat.le_of_ble_eq_true rfl) rfl ?_
  refine z_goto (pc := 59) (tgt := 8) x dX2_answerAt_59 rfl ?_
  exact z_sub [1, 2, 3, 4, 5, 0] rfl (h8 a0 a1 a2 a3 a4 (a5 + (1 : Int32)))
def s_X2_answerAt_52 (E : zE) (k8 : Option Nat → Option Nat → Int32 → Int32 → Int32 → Int32 → zM) (a0 : Option Nat) (a1 : Option Nat) (a2 : Int32) (a4 : Int32) (a5 : Int32) (b0 : Int32) : zM := s_X2_answerAt_56 E k8 a0 a1 a2 b0 (a4 + (1 : Int32)) a5
theorem w_X2_answerAt_52 (x : zCx p l R s m args meth c E D tA cX2_answerAt 6 yX2_answerAt.cls 73) (hl : l.stackTraces = false) (hret : meth.sig.returnType = (Option.some Jvm.ClassFile.FieldType.int)) (hnm : meth.name = yX2_answerAt.name) (htab : ∀ z ∈ c.exceptionTable.toList, False) {k8 : Option Nat → Option Nat → Int32 → Int32 → Int32 → Int32 → zM} (h8 : ∀ (a0 : Option Nat) (a1 : Option Nat) (a2 : Int32) (a3 : Int32) (a4 : Int32) (a5 : Int32) , zW p l e R s m args below meth c E D tA 6 k0 (k8 a0 a1 a2 a3 a4 a5) [(0, zP a0), (1, zP a1), (2, zI a2), (3, zI a3), (4, zI a4), (5, zI a5)] 8 []) (a0 : Option Nat) (a1 : Option Nat) (a2 : Int32) (a4 : Int32) (a5 : Int32) (b0 : Int32) : zW p l e R s m args below meth c E D tA 6 k0 (s_X2_answerAt_52 E k8 a0 a1 a2 a4 a5 b0) [(0, zP a0), (1, zP a1), (2, zI a2), (4, zI a4), (5, zI a5)] 52 [zI b0] := by
  unfold s_X2_answerAt_52
  refine z_istore_n (pc := 52) (lv' := [(3, zI b0), (0, zP a0), (1, zP a1), (2, zI a2), (4, zI a4), (5, zI a5)]) x dX2_answerAt_52 rfl (Nat.le_of_ble_eq_true rfl) rfl ?_
  refine z_iinc (pc := 53) (lv' := [(4, zI (a4 + (1 : Int32))), (3, zI b0), (0, zP a0), (1, zP a1), (2, zI a2), (5, zI a5)]) x (v2 := (a4 + (1 : Int32))) 4 dX2_answerAt_53 rfl rfl (Nat.le_of_ble_eq_true rfl) rfl ?_
  exact z_sub [2, 3, 4, 1, 0, 5] rfl (w_X2_answerAt_56 x hl hret hnm htab h8 a0 a1 a2 b0 (a4 + (1 : Int32)) a5)
def s_X2_answerAt_8 (E : zE) : Nat → Option Nat → Option Nat → Int32 → Int32 → Int32 → Int32 → zM
  | 0, _, _, _, _, _, _ => zFail
  | n + 1, a0, a1, a2, a3, a4, a5 => if (100 : Int32) ≤ a5 then (zRet (some (.int a3))) else (zC (zRv a0 [(26, fun b => s_X2_facts E (some b))]) zThr (zKR (fun v16 => zGetI a1 23 0 (fun v20 => zC (zRv v16 [(32, fun b => s_X4_has E (some b) v20 a5)]) zThr (zKI (fun v25 => if v25 = 0 then (s_X2_answerAt_56 E (s_X2_answerAt_8 E n) a0 a1 a2 a3 a4 a5) else (zC (zRv a1 [(23, fun b => s_X17_fits E (some b) a5)]) zThr (zKI (fun v34 => if v34 = 0 then (s_X2_answerAt_56 E (s_X2_answerAt_8 E n) a0 a1 a2 a3 a4 a5) else (if a4 = a2 then (s_X2_answerAt_52 E (s_X2_answerAt_8 E n) a0 a1 a2 a4 a5 a5) else (s_X2_answerAt_52 E (s_X2_answerAt_8 E n) a0 a1 a2 a4 a5 a3)))))))))))
theorem w_X2_answerAt_8 (x : zCx p l R s m args meth c E D tA cX2_answerAt 6 yX2_answerAt.cls 73) (hl : l.stackTraces = false) (hret : meth.sig.returnType = (Option.some Jvm.ClassFile.FieldType.int)) (hnm : meth.name = yX2_answerAt.name) (htab : ∀ z ∈ c.exceptionTable.toList, False) : ∀ (n : Nat) (a0 : Option Nat) (a1 : Option Nat) (a2 : Int32) (a3 : Int32) (a4 : Int32) (a5 : Int32), zW p l e R s m args below meth c E D tA 6 k0 (s_X2_answerAt_8 E n a0 a1 a2 a3 a4 a5) [(0, zP a0), (1, zP a1), (2, zI a2), (3, zI a3), (4, zI a4), (5, zI a5)] 8 [] := by
  intro n
  induction n with
  | zero => intro a0 a1 a2 a3 a4 a5; exact z_fail
  | succ n h8 =>
    intro a0 a1 a2 a3 a4 a5
    rw [s_X2_answerAt_8]
    refine z_iload (pc := 8) x 5 dX2_answerAt_8 rfl ?_
    refine z_bipush (pc := 10) x (v := (100 : Int32)) dX2_answerAt_10 rfl ?_
    refine z_icmp_ge (pc := 12) (tgt := 62) x dX2_answerAt_12 rfl (fun _ => ?_) (fun _ => ?_)
    · refine z_iload_n (pc := 62) x 3 dX2_answerAt_62 rfl rfl ?_
      exact z_iret (pc := 63) x hret dX2_answerAt_63
    · refine z_aload_n (pc := 15) x 0 dX2_answerAt_15 rfl rfl ?_
      refine z_call (pc := 16) (z_canV (pc := 16) (As := []) (st := []) x (ci := 26) rfl (fun b => m_X2_facts hl (some b)) q984 q369 (x.2.2.2.2.1 _ q370) q109 q371 n_X2_facts ⟨by decide, by decide⟩ (Nat.le_of_ble_eq_true rfl) dX2_answerAt_16) (zv_R fun v16 => ?_) (fun q => zx_thr x (fun z hz => (htab z hz).elim) q)
      refine z_aload_n (pc := 19) x 1 dX2_answerAt_19 rfl rfl ?_
      refine z_getN (pc := 20) (fun _ _ h => zAsI_eq h) x in_X17 (ci := 23) rfl (k := 0) (by decide) q1117 (fun _ h => h) dX2_answerAt_20 fun v20 => ?_
      refine z_iload (pc := 23) x 5 dX2_answerAt_23 rfl ?_
      refine z_call (pc := 25) (z_canV (pc := 25) (As := [zI v20, zI a5]) (st := []) x (ci := 32) rfl (fun b => m_X4_has hl (some b) v20 a5) q1212 q814 (x.2.2.2.2.1 _ q815) q114 q816 n_X4_has ⟨by decide, by decide⟩ (Nat.le_of_ble_eq_true rfl) dX2_answerAt_25) (zv_I fun v25 => ?_) (fun q => zx_thr x (fun z hz => (htab z hz).elim) q)
      refine z_if_eq (pc := 28) (tgt := 56) x dX2_answerAt_28 rfl (fun _ => ?_) (fun _ => ?_)
      · exact z_sub [0, 1, 2, 3, 4, 5] rfl (w_X2_answerAt_56 x hl hret hnm htab h8 a0 a1 a2 a3 a4 a5)
      · refine z_aload_n (pc := 31) x 1 dX2_answerAt_31 rfl rfl ?_
        refine z_iload (pc := 32) x 5 dX2_answerAt_32 rfl ?_
        refine z_call (pc := 34) (z_canV (pc := 34) (As := [zI a5]) (st := []) x (ci := 23) rfl (fun b => m_X17_fits hl (some b) a5) q1933 q1137 (x.2.2.2.2.1 _ q1138) q153 q1139 n_X17_fits ⟨by decide, by decide⟩ (Nat.le_of_ble_eq_true rfl) dX2_answerAt_34) (zv_I fun v34 => ?_) (fun q => zx_thr x (fun z hz => (htab z hz).elim) q)
        refine z_if_eq (pc := 37) (tgt := 56) x dX2_answerAt_37 rfl (fun _ => ?_) (fun _ => ?_)
        · exact z_sub [0, 1, 2, 3, 4, 5] rfl (w_X2_answerAt_56 x hl hret hnm htab h8 a0 a1 a2 a3 a4 a5)
        · refine z_iload (pc := 40) x 4 dX2_answerAt_40 rfl ?_
          refine z_iload_n (pc := 42) x 2 dX2_answerAt_42 rfl rfl ?_
          refine z_icmp_ne (pc := 43) (tgt := 51) x dX2_answerAt_43 rfl (fun _ => ?_) (fun _ => ?_)
          · refine z_iload (pc := 46) x 5 dX2_answerAt_46 rfl ?_
            refine z_goto (pc := 48) (tgt := 52) x dX2_answerAt_48 rfl ?_
            exact z_sub [0, 1, 2, 4, 5] rfl (w_X2_answerAt_52 x hl hret hnm htab h8 a0 a1 a2 a4 a5 a5)
          · refine z_iload_n (pc := 51) x 3 dX2_answerAt_51 rfl rfl ?_
            exact z_sub [0, 1, 2, 4, 5] rfl (w_X2_answerAt_52 x hl hret hnm htab h8 a0 a1 a2 a4 a5 a3)
def s_X2_answerAt (E : zE) (a0 : Option Nat) (a1 : Option Nat) (a2 : Int32) : zM := s_X2_answerAt_8 E zN a0 a1 a2 (-1 : Int32) (0 : Int32) (0 : Int32)
theorem m_X2_answerAt {l : Launch} {E : zE} {D : va_G} {tA : Nat → ClassId} (hl : l.stackTraces = false) (a0 : Option Nat) (a1 : Option Nat) (a2 : Int32) : zMet l E D tA yX2_answerAt (ws_ yX2_answerAt cX2_answerAt 6 (Option.some Jvm.ClassFile.FieldType.int)) 73 (s_X2_answerAt E a0 a1 a2) [zP a0, zP a1, zI a2] := by
  refine z_met hl (by decide +kernel) (by rw [zSl_len]; exact (Nat.le_of_ble_eq_true rfl)) fun p e R s m args below meth c k0 x hret hnm htab => ?_
  refine z_lv [(0, zP a0), (1, zP a1), (2, zI a2)] rfl ?_
  unfold s_X2_answerAt
  refine z_iconst (pc := 0) x (v := (-1 : Int32)) dX2_answerAt_0 rfl ?_
  refine z_istore_n (pc := 1) (lv' := [(3, zI (-1 : Int32)), (0, zP a0), (1, zP a1), (2, zI a2)]) x dX2_answerAt_1 rfl (Nat.le_of_ble_eq_true rfl) rfl ?_
  refine z_iconst (pc := 2) x (v := (0 : Int32)) dX2_answerAt_2 rfl ?_
  refine z_istore (pc := 3) (lv' := [(4, zI (0 : Int32)), (3, zI (-1 : Int32)), (0, zP a0), (1, zP a1), (2, zI a2)]) x dX2_answerAt_3 (Nat.le_of_ble_eq_true rfl) rfl ?_
  refine z_iconst (pc := 5) x (v := (0 : Int32)) dX2_answerAt_5 rfl ?_
  refine z_istore (pc := 6) (lv' := [(5, zI (0 : Int32)), (4, zI (0 : Int32)), (3, zI (-1 : Int32)), (0, zP a0), (1, zP a1), (2, zI a2)]) x dX2_answerAt_6 (Nat.le_of_ble_eq_true rfl) rfl ?_
  exact z_sub [3, 4, 5, 2, 1, 0] rfl (w_X2_answerAt_8 x hl hret hnm htab zN a0 a1 a2 (-1 : Int32) (0 : Int32) (0 : Int32))
/-! X1_answerAt -/
def s_X1_answerAt (E : zE) (a0 : Option Nat) (a1 : Int32) (a2 : Int32) (a3 : Int32) (a4 : Int32) : zM := zC (s_X1_requireGoal E a1 a2 a3) zThr (zKI (fun v3 => zGetR a0 16 0 (fun v9 => zNew 23 4 [.int 0, .int 0, .int 0, .null] (fun v12 => zC (zSp v12 (fun b => s_X17_init E (some b) v3 a2 a3)) zThr (zKV (zC (zRv v9 [(26, fun b => s_X2_answerAt E (some b) v12 a4)]) zThr (zKI (fun v25 => zC (s_X1_requireFound E v25) zThr (zKI (fun v28 => zRet (some (.int v28))))))))))))
theorem m_X1_answerAt {l : Launch} {E : zE} {D : va_G} {tA : Nat → ClassId} (hl : l.stackTraces = false) (a0 : Option Nat) (a1 : Int32) (a2 : Int32) (a3 : Int32) (a4 : Int32) : zMet l E D tA yX1_answerAt (ws_ yX1_answerAt cX1_answerAt 6 (Option.some Jvm.ClassFile.FieldType.int)) 74 (s_X1_answerAt E a0 a1 a2 a3 a4) [zP a0, zI a1, zI a2, zI a3, zI a4] := by
  refine z_met hl (by decide +kernel) (by rw [zSl_len]; exact (Nat.le_of_ble_eq_true rfl)) fun p e R s m args below meth c k0 x hret hnm htab => ?_
  refine z_lv [(0, zP a0), (1, zI a1), (2, zI a2), (3, zI a3), (4, zI a4)] rfl ?_
  unfold s_X1_answerAt
  refine z_iload_n (pc := 0) x 1 dX1_answerAt_0 rfl rfl ?_
  refine z_iload_n (pc := 1) x 2 dX1_answerAt_1 rfl rfl ?_
  refine z_iload_n (pc := 2) x 3 dX1_answerAt_2 rfl rfl ?_
  refine z_call (pc := 3) (z_canS (pc := 3) (As := [zI a1, zI a2, zI a3]) (st := []) x (m_X1_requireGoal hl a1 a2 a3) q1924 q1925 q108 q1926 n_X1_requireGoal ⟨by decide, by decide⟩ (Nat.le_of_ble_eq_true rfl) dX1_answerAt_3) (zv_I fun v3 => ?_) (fun q => zx_thr x (fun z hz => (htab z hz).elim) q)
  refine z_istore (pc := 6) (lv' := [(5, zI v3), (0, zP a0), (1, zI a1), (2, zI a2), (3, zI a3), (4, zI a4)]) x dX1_answerAt_6 (Nat.le_of_ble_eq_true rfl) rfl ?_
  refine z_aload_n (pc := 8) x 1 dX1_answerAt_8 rfl rfl ?_
  refine z_get (pc := 9) (fun _ _ h => zAsR_eq h) x in_X1 (ci := 16) rfl (k := 0) (by decide) q320 (fun _ h => h) dX1_answerAt_9 fun v9 => ?_
  refine z_new (pc := 12) x in_X17 tyX17 tyX17_ok q1927 q1108 q153 (ci := 23) rfl (by decide) (by decide +kernel) dX1_answerAt_12 fun v12 => ?_
  refine z_dup (pc := 15) x dX1_answerAt_15 rfl ?_
  refine z_iload (pc := 16) x 0 dX1_answerAt_16 rfl ?_
  refine z_iload_n (pc := 18) x 3 dX1_answerAt_18 rfl rfl ?_
  refine z_iload_n (pc := 19) x 4 dX1_answerAt_19 rfl rfl ?_
  refine z_call (pc := 20) (z_canI (pc := 20) (ret := none) (As := [zI v3, zI a2, zI a3]) (st := [zP v12, zP v9]) x (fun b => m_X17_init hl (some b) v3 a2 a3) q1928 rfl q1110 q153 q1111 n_X17_init ⟨by decide, by decide⟩ (Nat.le_of_ble_eq_true rfl) dX1_answerAt_20) (zv_V ?_) (fun q => zx_thr x (fun z hz => (htab z hz).elim) q)
  refine z_iload (pc := 23) x 5 dX1_answerAt_23 rfl ?_
  refine z_call (pc := 25) (z_canV (pc := 25) (As := [zP v12, zI a4]) (st := []) x (ci := 26) rfl (fun b => m_X2_answerAt hl (some b) v12 a4) q1951 q1952 (x.2.2.2.2.1 _ q1953) q109 q1954 n_X2_answerAt ⟨by decide, by decide⟩ (Nat.le_of_ble_eq_true rfl) dX1_answerAt_25) (zv_I fun v25 => ?_) (fun q => zx_thr x (fun z hz => (htab z hz).elim) q)
  refine z_call (pc := 28) (z_canS (pc := 28) (As := [zI v25]) (st := []) x (m_X1_requireFound hl v25) q1790 q1791 q108 q1792 n_X1_requireFound ⟨by decide, by decide⟩ (Nat.le_of_ble_eq_true rfl) dX1_answerAt_28) (zv_I fun v28 => ?_) (fun q => zx_thr x (fun z hz => (htab z hz).elim) q)
  exact z_iret (pc := 31) x hret dX1_answerAt_31
/-! X0_answerAt -/
def s_X0_answerAt_17 (E : zE) (b0 : Option Nat) : zM := zRet (some (.int (1 : Int32)))
theorem w_X0_answerAt_17 (x : zCx p l R s m args meth c E D tA cX0_answerAt 7 yX0_answerAt.cls 75) (hl : l.stackTraces = false) (hret : meth.sig.returnType = (Option.some Jvm.ClassFile.FieldType.int)) (hnm : meth.name = yX0_answerAt.name) (htab : c.exceptionTable.toList = tableOf [(0, 14, 17, 13), (0, 14, 21, 22)]) (b0 : Option Nat) : zW p l e R s m args below meth c E D tA 7 k0 (s_X0_answerAt_17 E b0) [] 17 [zP b0] := by
  unfold s_X0_answerAt_17
  refine z_astore (pc := 17) (lv' := [(6, zP b0)]) x dX0_answerAt_17 (Nat.le_of_ble_eq_true rfl) rfl ?_
  refine z_iconst (pc := 19) x (v := (1 : Int32)) dX0_answerAt_19 rfl ?_
  exact z_iret (pc := 20) x hret dX0_answerAt_20
def s_X0_answerAt_21 (E : zE) (b0 : Option Nat) : zM := zRet (some (.int (2 : Int32)))
theorem w_X0_answerAt_21 (x : zCx p l R s m args meth c E D tA cX0_answerAt 7 yX0_answerAt.cls 75) (hl : l.stackTraces = false) (hret : meth.sig.returnType = (Option.some Jvm.ClassFile.FieldType.int)) (hnm : meth.name = yX0_answerAt.name) (htab : c.exceptionTable.toList = tableOf [(0, 14, 17, 13), (0, 14, 21, 22)]) (b0 : Option Nat) : zW p l e R s m args below meth c E D tA 7 k0 (s_X0_answerAt_21 E b0) [] 21 [zP b0] := by
  unfold s_X0_answerAt_21
  refine z_astore (pc := 21) (lv' := [(6, zP b0)]) x dX0_answerAt_21 (Nat.le_of_ble_eq_true rfl) rfl ?_
  refine z_iconst (pc := 23) x (v := (2 : Int32)) dX0_answerAt_23 rfl ?_
  exact z_iret (pc := 24) x hret dX0_answerAt_24
def s_X0_answerAt (E : zE) (a0 : Option Nat) (a1 : Int32) (a2 : Int32) (a3 : Int32) (a4 : Int32) (a5 : Option Nat) : zM := zC (zRv a0 [(16, fun b => s_X1_answerAt E (some b) a1 a2 a3 a4)]) (fun q => zCat1 q [(0, s_X0_answerAt_17 E (some q)), (6, s_X0_answerAt_21 E (some q))]) (zKI (fun v9 => zSaL E 3 a5 (0 : Int32) ((v9).toInt64) (zRet (some (.int (0 : Int32))))))
theorem m_X0_answerAt {l : Launch} {E : zE} {D : va_G} {tA : Nat → ClassId} (hl : l.stackTraces = false) (a0 : Option Nat) (a1 : Int32) (a2 : Int32) (a3 : Int32) (a4 : Int32) (a5 : Option Nat) : zMet l E D tA yX0_answerAt (wsW_ yX0_answerAt cX0_answerAt 7 (Option.some Jvm.ClassFile.FieldType.int) [(0, 14, 17, 13), (0, 14, 21, 22)]) 75 (s_X0_answerAt E a0 a1 a2 a3 a4 a5) [zP a0, zI a1, zI a2, zI a3, zI a4, zP a5] := by
  refine z_metW hl (by decide +kernel) (by rw [zSl_len]; exact (Nat.le_of_ble_eq_true rfl)) fun p e R s m args below meth c k0 x hret hnm htab => ?_
  refine z_lv [(0, zP a0), (1, zI a1), (2, zI a2), (3, zI a3), (4, zI a4), (5, zP a5)] rfl ?_
  unfold s_X0_answerAt
  refine z_aload (pc := 0) x 5 dX0_answerAt_0 rfl ?_
  refine z_iconst (pc := 2) x (v := (0 : Int32)) dX0_answerAt_2 rfl ?_
  refine z_aload_n (pc := 3) x 0 dX0_answerAt_3 rfl rfl ?_
  refine z_iload_n (pc := 4) x 1 dX0_answerAt_4 rfl rfl ?_
  refine z_iload_n (pc := 5) x 2 dX0_answerAt_5 rfl rfl ?_
  refine z_iload_n (pc := 6) x 3 dX0_answerAt_6 rfl rfl ?_
  refine z_iload (pc := 7) x 4 dX0_answerAt_7 rfl ?_
  refine z_call (pc := 9) (z_canV (pc := 9) (As := [zI a1, zI a2, zI a3, zI a4]) (st := [zI (0 : Int32), zP a5]) x (ci := 16) rfl (fun b => m_X1_answerAt hl (some b) a1 a2 a3 a4) q1947 q1948 (x.2.2.2.2.1 _ q1949) q108 q1950 n_X1_answerAt ⟨by decide, by decide⟩ (Nat.le_of_ble_eq_true rfl) dX0_answerAt_9) (zv_I fun v9 => ?_) (fun q => zx_cat x [(0, s_X0_answerAt_17 E (some q), ⟨0, 14, 17, 13⟩), (6, s_X0_answerAt_21 E (some q), ⟨0, 14, 21, 22⟩)] htab (List.forall_mem_cons.mpr ⟨⟨rfl, (show (13 : Nat) ≠ 0 by decide), q1462, z_sub [] rfl (w_X0_answerAt_17 x hl hret hnm htab (some q))⟩, (List.forall_mem_cons.mpr ⟨⟨rfl, (show (22 : Nat) ≠ 0 by decide), q1642, z_sub [] rfl (w_X0_answerAt_21 x hl hret hnm htab (some q))⟩, (fun _ hj => nomatch hj)⟩)⟩))
  refine z_i2l (pc := 12) x dX0_answerAt_12 ?_
  refine z_last (pc := 13) x (t := 3) rfl dX0_answerAt_13 ?_
  refine z_goto (pc := 14) (tgt := 25) x dX0_answerAt_14 rfl ?_
  refine z_iconst (pc := 25) x (v := (0 : Int32)) dX0_answerAt_25 rfl ?_
  exact z_iret (pc := 26) x hret dX0_answerAt_26
/-! X1_requireRule -/
def s_X1_requireRule (E : zE) (a0 : Option Nat) (a1 : Int32) : zM := zGetR a0 16 0 (fun v2 => zGetR v2 26 1 (fun v5 => zC (zRv v5 [(10, fun b => s_J2_size E (some b))]) zThr (zKI (fun v8 => zC (s_X1_requireIndex E a1 v8) zThr (zKV (zGetR a0 16 0 (fun v17 => zGetR v17 26 1 (fun v20 => zC (zRv v20 [(10, fun b => s_J2_get E (some b) a1)]) zThr (zKR (fun v24 => zCsS 31 v24 (zRet (some (va_rf v24)))))))))))))
theorem m_X1_requireRule {l : Launch} {E : zE} {D : va_G} {tA : Nat → ClassId} (hl : l.stackTraces = false) (a0 : Option Nat) (a1 : Int32) : zMet l E D tA yX1_requireRule (ws_ yX1_requireRule cX1_requireRule 2 (Option.some (Jvm.ClassFile.FieldType.object "BrambleLogic$Rule"))) 12 (s_X1_requireRule E a0 a1) [zP a0, zI a1] := by
  refine z_met hl (by decide +kernel) (by rw [zSl_len]; exact (Nat.le_of_ble_eq_true rfl)) fun p e R s m args below meth c k0 x hret hnm htab => ?_
  refine z_lv [(0, zP a0), (1, zI a1)] rfl ?_
  unfold s_X1_requireRule
  refine z_iload_n (pc := 0) x 1 dX1_requireRule_0 rfl rfl ?_
  refine z_aload_n (pc := 1) x 0 dX1_requireRule_1 rfl rfl ?_
  refine z_get (pc := 2) (fun _ _ h => zAsR_eq h) x in_X1 (ci := 16) rfl (k := 0) (by decide) q320 (fun _ h => h) dX1_requireRule_2 fun v2 => ?_
  refine z_getN (pc := 5) (fun _ _ h => zAsR_eq h) x in_X2 (ci := 26) rfl (k := 1) (by decide) q255 (fun _ h => h) dX1_requireRule_5 fun v5 => ?_
  refine z_call (pc := 8) (z_canIF (pc := 8) (As := []) (st := [zI a1]) (x9 := ⟨"java/util/List", "size", "()I"⟩) x (ci := 10) rfl (fun b => m_J2_size hl (some b)) q880 q767 q766 (by decide) q768 q770 q771 q769 q384 q112 q772 nx_java_util_List_size___I ⟨by decide, by decide⟩ (Nat.le_of_ble_eq_true rfl) dX1_requireRule_8) (zv_I fun v8 => ?_) (fun q => zx_thr x (fun z hz => (htab z hz).elim) q)
  refine z_call (pc := 13) (z_canS (pc := 13) (As := [zI a1, zI v8]) (st := []) x (m_X1_requireIndex hl a1 v8) q1966 q1703 q108 q1704 n_X1_requireIndex ⟨by decide, by decide⟩ (Nat.le_of_ble_eq_true rfl) dX1_requireRule_13) (zv_V ?_) (fun q => zx_thr x (fun z hz => (htab z hz).elim) q)
  refine z_aload_n (pc := 16) x 0 dX1_requireRule_16 rfl rfl ?_
  refine z_get (pc := 17) (fun _ _ h => zAsR_eq h) x in_X1 (ci := 16) rfl (k := 0) (by decide) q320 (fun _ h => h) dX1_requireRule_17 fun v17 => ?_
  refine z_getN (pc := 20) (fun _ _ h => zAsR_eq h) x in_X2 (ci := 26) rfl (k := 1) (by decide) q255 (fun _ h => h) dX1_requireRule_20 fun v20 => ?_
  refine z_iload_n (pc := 23) x 1 dX1_requireRule_23 rfl rfl ?_
  refine z_call (pc := 24) (z_canIF (pc := 24) (As := [zI a1]) (st := []) (x9 := ⟨"java/util/List", "get", "(I)Ljava/lang/Object;"⟩) x (ci := 10) rfl (fun b => m_J2_get hl (some b) a1) q1968 q845 q844 (by decide) q846 q848 q849 q847 q384 q112 q850 nx_java_util_List_get__I_Ljava_lang_Object_ ⟨by decide, by decide⟩ (Nat.le_of_ble_eq_true rfl) dX1_requireRule_24) (zv_R fun v24 => ?_) (fun q => zx_thr x (fun z hz => (htab z hz).elim) q)
  refine z_csS (pc := 29) x (ci := 31) rfl q1969 dX1_requireRule_29 ?_
  exact z_aret (pc := 32) x hret (Or.inl ⟨_, rfl⟩) dX1_requireRule_32
/-! X1_variables -/
def s_X1_variables (E : zE) (a0 : Option Nat) (a1 : Int32) : zM := zC (zRv a0 [(16, fun b => s_X1_requireRule E (some b) a1)]) zThr (zKR (fun v2 => zGetI v2 31 4 (fun v5 => zC (s_J14_bitCount E v5) zThr (zKI (fun v8 => zRet (some (.int v8)))))))
theorem m_X1_variables {l : Launch} {E : zE} {D : va_G} {tA : Nat → ClassId} (hl : l.stackTraces = false) (a0 : Option Nat) (a1 : Int32) : zMet l E D tA yX1_variables (ws_ yX1_variables cX1_variables 2 (Option.some Jvm.ClassFile.FieldType.int)) 13 (s_X1_variables E a0 a1) [zP a0, zI a1] := by
  refine z_met hl (by decide +kernel) (by rw [zSl_len]; exact (Nat.le_of_ble_eq_true rfl)) fun p e R s m args below meth c k0 x hret hnm htab => ?_
  refine z_lv [(0, zP a0), (1, zI a1)] rfl ?_
  unfold s_X1_variables
  refine z_aload_n (pc := 0) x 0 dX1_variables_0 rfl rfl ?_
  refine z_iload_n (pc := 1) x 1 dX1_variables_1 rfl rfl ?_
  refine z_call (pc := 2) (z_canV (pc := 2) (As := [zI a1]) (st := []) x (ci := 16) rfl (fun b => m_X1_requireRule hl (some b) a1) q1962 q1964 (z_selP x (ci := 16) rfl (by decide) (zNi_inst x q168) q1963 q1964) q108 q1965 n_X1_requireRule ⟨by decide, by decide⟩ (Nat.le_of_ble_eq_true rfl) dX1_variables_2) (zv_R fun v2 => ?_) (fun q => zx_thr x (fun z hz => (htab z hz).elim) q)
  refine z_getN (pc := 5) (fun _ _ h => zAsI_eq h) x in_X25 (ci := 31) rfl (k := 4) (by decide) q2515 (fun _ h => h) dX1_variables_5 fun v5 => ?_
  refine z_call (pc := 8) (z_canS (pc := 8) (As := [zI v5]) (st := []) x (m_J14_bitCount hl v5) q1970 q359 q128 q360 n_J14_bitCount ⟨by decide, by decide⟩ (Nat.le_of_ble_eq_true rfl) dX1_variables_8) (zv_I fun v8 => ?_) (fun q => zx_thr x (fun z hz => (htab z hz).elim) q)
  exact z_iret (pc := 11) x hret dX1_variables_11
/-! X0_variables -/
def s_X0_variables_12 (E : zE) (b0 : Option Nat) : zM := zRet (some (.int (1 : Int32)))
theorem w_X0_variables_12 (x : zCx p l R s m args meth c E D tA cX0_variables 4 yX0_variables.cls 14) (hl : l.stackTraces = false) (hret : meth.sig.returnType = (Option.some Jvm.ClassFile.FieldType.int)) (hnm : meth.name = yX0_variables.name) (htab : c.exceptionTable.toList = tableOf [(0, 9, 12, 28)]) (b0 : Option Nat) : zW p l e R s m args below meth c E D tA 4 k0 (s_X0_variables_12 E b0) [] 12 [zP b0] := by
  unfold s_X0_variables_12
  refine z_astore_n (pc := 12) (lv' := [(3, zP b0)]) x dX0_variables_12 rfl (Nat.le_of_ble_eq_true rfl) rfl ?_
  refine z_iconst (pc := 13) x (v := (1 : Int32)) dX0_variables_13 rfl ?_
  exact z_iret (pc := 14) x hret dX0_variables_14
def s_X0_variables (E : zE) (a0 : Option Nat) (a1 : Int32) (a2 : Option Nat) : zM := zC (zRv a0 [(16, fun b => s_X1_variables E (some b) a1)]) (fun q => zCat1 q [(8, s_X0_variables_12 E (some q))]) (zKI (fun v4 => zSaL E 3 a2 (0 : Int32) ((v4).toInt64) (zRet (some (.int (0 : Int32))))))
theorem m_X0_variables {l : Launch} {E : zE} {D : va_G} {tA : Nat → ClassId} (hl : l.stackTraces = false) (a0 : Option Nat) (a1 : Int32) (a2 : Option Nat) : zMet l E D tA yX0_variables (wsW_ yX0_variables cX0_variables 4 (Option.some Jvm.ClassFile.FieldType.int) [(0, 9, 12, 28)]) 14 (s_X0_variables E a0 a1 a2) [zP a0, zI a1, zP a2] := by
  refine z_metW hl (by decide +kernel) (by rw [zSl_len]; exact (Nat.le_of_ble_eq_true rfl)) fun p e R s m args below meth c k0 x hret hnm htab => ?_
  refine z_lv [(0, zP a0), (1, zI a1), (2, zP a2)] rfl ?_
  unfold s_X0_variables
  refine z_aload_n (pc := 0) x 2 dX0_variables_0 rfl rfl ?_
  refine z_iconst (pc := 1) x (v := (0 : Int32)) dX0_variables_1 rfl ?_
  refine z_aload_n (pc := 2) x 0 dX0_variables_2 rfl rfl ?_
  refine z_iload_n (pc := 3) x 1 dX0_variables_3 rfl rfl ?_
  refine z_call (pc := 4) (z_canV (pc := 4) (As := [zI a1]) (st := [zI (0 : Int32), zP a2]) x (ci := 16) rfl (fun b => m_X1_variables hl (some b) a1) q1958 q1959 (x.2.2.2.2.1 _ q1960) q108 q1961 n_X1_variables ⟨by decide, by decide⟩ (Nat.le_of_ble_eq_true rfl) dX0_variables_4) (zv_I fun v4 => ?_) (fun q => zx_cat x [(8, s_X0_variables_12 E (some q), ⟨0, 9, 12, 28⟩)] htab (List.forall_mem_cons.mpr ⟨⟨rfl, (show (28 : Nat) ≠ 0 by decide), q1673, z_sub [] rfl (w_X0_variables_12 x hl hret hnm htab (some q))⟩, (fun _ hj => nomatch hj)⟩))
  refine z_i2l (pc := 7) x dX0_variables_7 ?_
  refine z_last (pc := 8) x (t := 3) rfl dX0_variables_8 ?_
  refine z_goto (pc := 9) (tgt := 15) x dX0_variables_9 rfl ?_
  refine z_iconst (pc := 15) x (v := (0 : Int32)) dX0_variables_15 rfl ?_
  exact z_iret (pc := 16) x hret dX0_variables_16
/-! J3_init -/
def s_J3_init (E : zE) (a0 : Option Nat) : zM := zC (zSp a0 (fun b => s_J0_init E (some b))) zThr (zKV (zNewA 5 zAr0R (17 : Int32) (fun v7 => zSet E a0 13 0 (zVal (zP v7)) (zRet none))))
theorem m_J3_init {l : Launch} {E : zE} {D : va_G} {tA : Nat → ClassId} (hl : l.stackTraces = false) (a0 : Option Nat) : zMet l E D tA yJ3_init (ws_ yJ3_init cJ3_init 1 (Option.none : Option Jvm.ClassFile.FieldType)) 10 (s_J3_init E a0) [zP a0] := by
  refine z_met hl (by decide +kernel) (by rw [zSl_len]; exact (Nat.le_of_ble_eq_true rfl)) fun p e R s m args below meth c k0 x hret hnm htab => ?_
  refine z_lv [(0, zP a0)] rfl ?_
  unfold s_J3_init
  refine z_aload_n (pc := 0) x 0 dJ3_init_0 rfl rfl ?_
  refine z_call (pc := 1) (z_canI (pc := 1) (ret := none) (As := []) (st := []) x (fun b => m_J0_init hl (some b)) q273 rfl q190 q110 q191 n_J0_init ⟨by decide, by decide⟩ (Nat.le_of_ble_eq_true rfl) dJ3_init_1) (zv_V ?_) (fun q => zx_thr x (fun z hz => (htab z hz).elim) q)
  refine z_aload_n (pc := 4) x 0 dJ3_init_4 rfl rfl ?_
  refine z_bipush (pc := 5) x (v := (17 : Int32)) dJ3_init_5 rfl ?_
  refine z_newQ (pc := 7) x (t := 5) rfl q274 q275 dJ3_init_7 fun v7 => ?_
  refine z_set (pc := 10) (v := zP v7) x in_J3 tyJ3 tyJ3_ok nmJ3 (ci := 13) rfl (k := 0) (by decide) q276 (fun _ h => h) rfl (zfitR rfl _).1 (zfitR rfl _).2 dJ3_init_10 ?_
  exact z_vret (pc := 13) x hret dJ3_init_13
/-! J13_init -/
def s_J13_init (E : zE) (a0 : Option Nat) : zM := zSp a0 (fun _ => zRet none)
theorem m_J13_init {l : Launch} {E : zE} {D : va_G} {tA : Nat → ClassId} (hl : l.stackTraces = false) (a0 : Option Nat) : zMet l E D tA yJ13_init (ws_ yJ13_init cJ13_init 1 (Option.none : Option Jvm.ClassFile.FieldType)) 9 (s_J13_init E a0) [zP a0] := by
  refine z_met hl (by decide +kernel) (by rw [zSl_len]; exact (Nat.le_of_ble_eq_true rfl)) fun p e R s m args below meth c k0 x hret hnm htab => ?_
  refine z_lv [(0, zP a0)] rfl ?_
  unfold s_J13_init
  refine z_aload_n (pc := 0) x 0 dJ13_init_0 rfl rfl ?_
  refine z_objInit (pc := 1) x q2009 q173 q174 (by omega) (zSum (k := 0) rfl (by omega)) dJ13_init_1 ?_
  exact z_vret (pc := 4) x hret dJ13_init_4
/-! J14_init -/
def s_J14_init (E : zE) (a0 : Option Nat) (a1 : Int32) : zM := zC (zSp a0 (fun b => s_J13_init E (some b))) zThr (zKV (zSet E a0 9 0 (zVal (zI a1)) (zRet none)))
theorem m_J14_init {l : Launch} {E : zE} {D : va_G} {tA : Nat → ClassId} (hl : l.stackTraces = false) (a0 : Option Nat) (a1 : Int32) : zMet l E D tA yJ14_init (ws_ yJ14_init cJ14_init 2 (Option.none : Option Jvm.ClassFile.FieldType)) 10 (s_J14_init E a0 a1) [zP a0, zI a1] := by
  refine z_met hl (by decide +kernel) (by rw [zSl_len]; exact (Nat.le_of_ble_eq_true rfl)) fun p e R s m args below meth c k0 x hret hnm htab => ?_
  refine z_lv [(0, zP a0), (1, zI a1)] rfl ?_
  unfold s_J14_init
  refine z_aload_n (pc := 0) x 0 dJ14_init_0 rfl rfl ?_
  refine z_call (pc := 1) (z_canI (pc := 1) (ret := none) (As := []) (st := []) x (fun b => m_J13_init hl (some b)) q2006 rfl q2007 q127 q2008 n_J13_init ⟨by decide, by decide⟩ (Nat.le_of_ble_eq_true rfl) dJ14_init_1) (zv_V ?_) (fun q => zx_thr x (fun z hz => (htab z hz).elim) q)
  refine z_aload_n (pc := 4) x 0 dJ14_init_4 rfl rfl ?_
  refine z_iload_n (pc := 5) x 1 dJ14_init_5 rfl rfl ?_
  refine z_setF (pc := 6) (v := zI a1) x in_J14 tyJ14 tyJ14_ok nmJ14 (ci := 9) rfl (k := 0) (by decide) q2010 (fun _ h => h) rfl hnm rfl rfl rfl dJ14_init_6 ?_
  exact z_vret (pc := 9) x hret dJ14_init_9
/-! J14_valueOf -/
def s_J14_valueOf_23 (E : zE) (a0 : Int32) : zM := zNew 9 1 [.int 0] (fun v23 => zC (zSp v23 (fun b => s_J14_init E (some b) a0)) zThr (zKV (zRet (some (va_rf v23)))))
theorem w_J14_valueOf_23 (x : zCx p l R s m args meth c E D tA cJ14_valueOf 1 yJ14_valueOf.cls 11) (hl : l.stackTraces = false) (hret : meth.sig.returnType = (Option.some (Jvm.ClassFile.FieldType.object "java/lang/Integer"))) (hnm : meth.name = yJ14_valueOf.name) (htab : ∀ z ∈ c.exceptionTable.toList, False) (a0 : Int32) : zW p l e R s m args below meth c E D tA 1 k0 (s_J14_valueOf_23 E a0) [(0, zI a0)] 23 [] := by
  unfold s_J14_valueOf_23
  refine z_new (pc := 23) x in_J14 tyJ14 tyJ14_ok q2001 q2002 q128 (ci := 9) rfl (by decide) (by decide +kernel) dJ14_valueOf_23 fun v23 => ?_
  refine z_dup (pc := 26) x dJ14_valueOf_26 rfl ?_
  refine z_iload_n (pc := 27) x 0 dJ14_valueOf_27 rfl rfl ?_
  refine z_call (pc := 28) (z_canI (pc := 28) (ret := none) (As := [zI a0]) (st := [zP v23]) x (fun b => m_J14_init hl (some b) a0) q2003 rfl q2004 q128 q2005 n_J14_init ⟨by decide, by decide⟩ (Nat.le_of_ble_eq_true rfl) dJ14_valueOf_28) (zv_V ?_) (fun q => zx_thr x (fun z hz => (htab z hz).elim) q)
  exact z_aret (pc := 31) x hret (Or.inl ⟨_, rfl⟩) dJ14_valueOf_31
def s_J14_valueOf (E : zE) (a0 : Int32) : zM := if a0 < (-128 : Int32) then (s_J14_valueOf_23 E a0) else (if (127 : Int32) < a0 then (s_J14_valueOf_23 E a0) else (zGaQ E 10 3 (some (E 3)) (a0 + (128 : Int32)) (fun v21 => zRet (some (va_rf v21)))))
theorem m_J14_valueOf {l : Launch} {E : zE} {D : va_G} {tA : Nat → ClassId} (hl : l.stackTraces = false) (a0 : Int32) : zMet l E D tA yJ14_valueOf (ws_ yJ14_valueOf cJ14_valueOf 1 (Option.some (Jvm.ClassFile.FieldType.object "java/lang/Integer"))) 11 (s_J14_valueOf E a0) [zI a0] := by
  refine z_met hl (by decide +kernel) (by rw [zSl_len]; exact (Nat.le_of_ble_eq_true rfl)) fun p e R s m args below meth c k0 x hret hnm htab => ?_
  refine z_lv [(0, zI a0)] rfl ?_
  unfold s_J14_valueOf
  refine z_iload_n (pc := 0) x 0 dJ14_valueOf_0 rfl rfl ?_
  refine z_bipush (pc := 1) x (v := (-128 : Int32)) dJ14_valueOf_1 rfl ?_
  refine z_icmp_lt (pc := 3) (tgt := 23) x dJ14_valueOf_3 rfl (fun _ => ?_) (fun _ => ?_)
  · exact z_sub [0] rfl (w_J14_valueOf_23 x hl hret hnm htab a0)
  · refine z_iload_n (pc := 6) x 0 dJ14_valueOf_6 rfl rfl ?_
    refine z_staI (pc := 7) x (v := (127 : Int32)) (by decide) q1997 dJ14_valueOf_7 ?_
    refine z_icmp_gt (pc := 10) (tgt := 23) x dJ14_valueOf_10 rfl (fun _ => ?_) (fun _ => ?_)
    · exact z_sub [0] rfl (w_J14_valueOf_23 x hl hret hnm htab a0)
    · refine z_staR (pc := 13) x (k := 3) (by decide) q1999 dJ14_valueOf_13 ?_
      refine z_iload_n (pc := 16) x 0 dJ14_valueOf_16 rfl rfl ?_
      refine z_sipush (pc := 17) x (v := (128 : Int32)) dJ14_valueOf_17 rfl ?_
      refine z_iadd (pc := 20) x dJ14_valueOf_20 ?_
      refine z_aaldQ (pc := 21) x dJ14_valueOf_21 fun v21 => ?_
      exact z_aret (pc := 22) x hret (Or.inl ⟨_, rfl⟩) dJ14_valueOf_22
/-! J3_isEmpty -/
def s_J3_isEmpty (E : zE) (a0 : Option Nat) : zM := zGetI a0 13 1 (fun v1 => zGetI a0 13 2 (fun v5 => if v1 = v5 then (zRetN .boolean (1 : Int32)) else (zRetN .boolean (0 : Int32))))
theorem m_J3_isEmpty {l : Launch} {E : zE} {D : va_G} {tA : Nat → ClassId} (hl : l.stackTraces = false) (a0 : Option Nat) : zMet l E D tA yJ3_isEmpty (ws_ yJ3_isEmpty cJ3_isEmpty 1 (Option.some Jvm.ClassFile.FieldType.boolean)) 9 (s_J3_isEmpty E a0) [zP a0] := by
  refine z_met hl (by decide +kernel) (by rw [zSl_len]; exact (Nat.le_of_ble_eq_true rfl)) fun p e R s m args below meth c k0 x hret hnm htab => ?_
  refine z_lv [(0, zP a0)] rfl ?_
  unfold s_J3_isEmpty
  refine z_aload_n (pc := 0) x 0 dJ3_isEmpty_0 rfl rfl ?_
  refine z_get (pc := 1) (fun _ _ h => zAsI_eq h) x in_J3 (ci := 13) rfl (k := 1) (by decide) q277 (fun _ h => h) dJ3_isEmpty_1 fun v1 => ?_
  refine z_aload_n (pc := 4) x 0 dJ3_isEmpty_4 rfl rfl ?_
  refine z_get (pc := 5) (fun _ _ h => zAsI_eq h) x in_J3 (ci := 13) rfl (k := 2) (by decide) q278 (fun _ h => h) dJ3_isEmpty_5 fun v5 => ?_
  refine z_icmp_ne (pc := 8) (tgt := 15) x dJ3_isEmpty_8 rfl (fun _ => ?_) (fun _ => ?_)
  · refine z_iconst (pc := 11) x (v := (1 : Int32)) dJ3_isEmpty_11 rfl ?_
    refine z_goto (pc := 12) (tgt := 16) x dJ3_isEmpty_12 rfl ?_
    exact z_zret (pc := 16) x hret dJ3_isEmpty_16
  · refine z_iconst (pc := 15) x (v := (0 : Int32)) dJ3_isEmpty_15 rfl ?_
    exact z_zret (pc := 16) x hret dJ3_isEmpty_16
/-! J14_intValue -/
def s_J14_intValue (E : zE) (a0 : Option Nat) : zM := zGetI a0 9 0 (fun v1 => zRet (some (.int v1)))
theorem m_J14_intValue {l : Launch} {E : zE} {D : va_G} {tA : Nat → ClassId} (hl : l.stackTraces = false) (a0 : Option Nat) : zMet l E D tA yJ14_intValue (ws_ yJ14_intValue cJ14_intValue 1 (Option.some Jvm.ClassFile.FieldType.int)) 9 (s_J14_intValue E a0) [zP a0] := by
  refine z_met hl (by decide +kernel) (by rw [zSl_len]; exact (Nat.le_of_ble_eq_true rfl)) fun p e R s m args below meth c k0 x hret hnm htab => ?_
  refine z_lv [(0, zP a0)] rfl ?_
  unfold s_J14_intValue
  refine z_aload_n (pc := 0) x 0 dJ14_intValue_0 rfl rfl ?_
  refine z_get (pc := 1) (fun _ _ h => zAsI_eq h) x in_J14 (ci := 9) rfl (k := 0) (by decide) q2010 (fun _ h => h) dJ14_intValue_1 fun v1 => ?_
  exact z_iret (pc := 4) x hret dJ14_intValue_4
/-! X7_reached -/
def s_X7_reached_93 (E : zE) (k20 : Option Nat → Int32 → Option Nat → zM) (k46 : Option Nat → Int32 → Option Nat → Int32 → Int32 → zM) (a0 : Option Nat) (a2 : Int32) (a3 : Option Nat) (a4 : Int32) (a5 : Int32) : zM := k46 a0 a2 a3 a4 (a5 + (1 : Int32))
theorem w_X7_reached_93 (x : zCx p l R s m args meth c E D tA cX7_reached 6 yX7_reached.cls 13) (hl : l.stackTraces = false) (hret : meth.sig.returnType = (Option.some Jvm.ClassFile.FieldType.int)) (hnm : meth.name = yX7_reached.name) (htab : ∀ z ∈ c.exceptionTable.toList, False) {k20 : Option Nat → Int32 → Option Nat → zM} (h20 : ∀ (a0 : Option Nat) (a2 : Int32) (a3 : Option Nat) , zW p l e R s m args below meth c E D tA 6 k0 (k20 a0 a2 a3) [(0, zP a0), (2, zI a2), (3, zP a3)] 20 []) {k46 : Option Nat → Int32 → Option Nat → Int32 → Int32 → zM} (h46 : ∀ (a0 : Option Nat) (a2 : Int32) (a3 : Option Nat) (a4 : Int32) (a5 : Int32) , zW p l e R s m args below meth c E D tA 6 k0 (k46 a0 a2 a3 a4 a5) [(0, zP a0), (2, zI a2), (3, zP a3), (4, zI a4), (5, zI a5)] 46 []) (a0 : Option Nat) (a2 : Int32) (a3 : Option Nat) (a4 : Int32) (a5 : Int32) : zW p l e R s m args below meth c E D tA 6 k0 (s_X7_reached_93 E k20 k46 a0 a2 a3 a4 a5) [(0, zP a0), (2, zI a2), (3, zP a3), (4, zI a4), (5, zI a5)] 93 [] := by
  unfold s_X7_reached_93
  refine z_iinc (pc := 93) (lv' := [(5, zI (a5 + (1 : Int32))), (0, zP a0), (2, zI a2), (3, zP a3), (4, zI a4)]) x (v2 := (a5 + (1 : Int32))) 4 dX7_reached_93 rfl rfl (Nat.le_of_ble_eq_true rfl) rfl ?_
  refine z_goto (pc := 96) (tgt := 46) x dX7_reached_96 rfl ?_
  exact z_sub [1, 2, 3, 4, 0] rfl (h46 a0 a2 a3 a4 (a5 + (1 : Int32)))
def s_X7_reached_46 (E : zE) (k20 : Option Nat → Int32 → Option Nat → zM) : Nat → Option Nat → Int32 → Option Nat → Int32 → Int32 → zM
  | 0, _, _, _, _, _ => zFail
  | n + 1, a0, a2, a3, a4, a5 => if (8 : Int32) ≤ a5 then (k20 a0 a2 a3) else (zGetR a0 35 0 (fun v54 => zGaR 8 v54 a4 (fun v59 => zGaI 2 v59 a5 (fun v62 => if v62 = 0 then (s_X7_reached_93 E k20 (s_X7_reached_46 E k20 n) a0 a2 a3 a4 a5) else (if ((a2 >>> (a5 &&& 31)) &&& (1 : Int32)) = 0 then (zC (s_J14_valueOf E a5) zThr (zKR (fun v85 => zC (zRv a3 [(13, fun b => s_J3_addLast E (some b) v85)]) zThr (zKV (s_X7_reached_93 E k20 (s_X7_reached_46 E k20 n) a0 (a2 ||| ((1 : Int32) <<< (a5 &&& 31))) a3 a4 a5))))) else (s_X7_reached_93 E k20 (s_X7_reached_46 E k20 n) a0 a2 a3 a4 a5))))))
theorem w_X7_reached_46 (x : zCx p l R s m args meth c E D tA cX7_reached 6 yX7_reached.cls 13) (hl : l.stackTraces = false) (hret : meth.sig.returnType = (Option.some Jvm.ClassFile.FieldType.int)) (hnm : meth.name = yX7_reached.name) (htab : ∀ z ∈ c.exceptionTable.toList, False) {k20 : Option Nat → Int32 → Option Nat → zM} (h20 : ∀ (a0 : Option Nat) (a2 : Int32) (a3 : Option Nat) , zW p l e R s m args below meth c E D tA 6 k0 (k20 a0 a2 a3) [(0, zP a0), (2, zI a2), (3, zP a3)] 20 []) : ∀ (n : Nat) (a0 : Option Nat) (a2 : Int32) (a3 : Option Nat) (a4 : Int32) (a5 : Int32), zW p l e R s m args below meth c E D tA 6 k0 (s_X7_reached_46 E k20 n a0 a2 a3 a4 a5) [(0, zP a0), (2, zI a2), (3, zP a3), (4, zI a4), (5, zI a5)] 46 [] := by
  intro n
  induction n with
  | zero => intro a0 a2 a3 a4 a5; exact z_fail
  | succ n h46 =>
    intro a0 a2 a3 a4 a5
    rw [s_X7_reached_46]
    refine z_iload (pc := 46) x 4 dX7_reached_46 rfl ?_
    refine z_bipush (pc := 48) x (v := (8 : Int32)) dX7_reached_48 rfl ?_
    refine z_icmp_ge (pc := 50) (tgt := 99) x dX7_reached_50 rfl (fun _ => ?_) (fun _ => ?_)
    · refine z_goto (pc := 99) (tgt := 20) x dX7_reached_99 rfl ?_
      exact z_sub [0, 1, 2] rfl (h20 a0 a2 a3)
    · refine z_aload_n (pc := 53) x 0 dX7_reached_53 rfl rfl ?_
      refine z_get (pc := 54) (fun _ _ h => zAsR_eq h) x in_X7 (ci := 35) rfl (k := 0) (by decide) q594 (fun _ h => h) dX7_reached_54 fun v54 => ?_
      refine z_iload (pc := 57) x 3 dX7_reached_57 rfl ?_
      refine z_aald (pc := 59) x (t := 8) rfl rfl dX7_reached_59 fun v59 => ?_
      refine z_iload (pc := 60) x 4 dX7_reached_60 rfl ?_
      refine z_zald (pc := 62) x (t := 2) rfl dX7_reached_62 fun v62 => ?_
      refine z_if_eq (pc := 63) (tgt := 93) x dX7_reached_63 rfl (fun _ => ?_) (fun _ => ?_)
      · exact z_sub [0, 1, 2, 3, 4] rfl (w_X7_reached_93 x hl hret hnm htab h20 h46 a0 a2 a3 a4 a5)
      · refine z_iload_n (pc := 66) x 1 dX7_reached_66 rfl rfl ?_
        refine z_iload (pc := 67) x 4 dX7_reached_67 rfl ?_
        refine z_ishr (pc := 69) x dX7_reached_69 ?_
        refine z_iconst (pc := 70) x (v := (1 : Int32)) dX7_reached_70 rfl ?_
        refine z_iand (pc := 71) x dX7_reached_71 ?_
        refine z_if_ne (pc := 72) (tgt := 93) x dX7_reached_72 rfl (fun _ => ?_) (fun _ => ?_)
        · refine z_iload_n (pc := 75) x 1 dX7_reached_75 rfl rfl ?_
          refine z_iconst (pc := 76) x (v := (1 : Int32)) dX7_reached_76 rfl ?_
          refine z_iload (pc := 77) x 4 dX7_reached_77 rfl ?_
          refine z_ishl (pc := 79) x dX7_reached_79 ?_
          refine z_ior (pc := 80) x dX7_reached_80 ?_
          refine z_istore_n (pc := 81) (lv' := [(2, zI (a2 ||| ((1 : Int32) <<< (a5 &&& 31)))), (0, zP a0), (3, zP a3), (4, zI a4), (5, zI a5)]) x dX7_reached_81 rfl (Nat.le_of_ble_eq_true rfl) rfl ?_
          refine z_aload_n (pc := 82) x 2 dX7_reached_82 rfl rfl ?_
          refine z_iload (pc := 83) x 4 dX7_reached_83 rfl ?_
          refine z_call (pc := 85) (z_canS (pc := 85) (As := [zI a5]) (st := [zP a3]) x (m_J14_valueOf hl a5) q1994 q1995 q128 q1996 n_J14_valueOf ⟨by decide, by decide⟩ (Nat.le_of_ble_eq_true rfl) dX7_reached_85) (zv_R fun v85 => ?_) (fun q => zx_thr x (fun z hz => (htab z hz).elim) q)
          refine z_call (pc := 88) (z_canIF (pc := 88) (As := [zP v85]) (st := []) (x9 := ⟨"java/util/Deque", "addLast", "(Ljava/lang/Object;)V"⟩) x (ci := 13) rfl (fun b => m_J3_addLast hl (some b) v85) q2015 q1616 q1615 (by decide) q1617 q1619 q1620 q1618 q1583 q116 q1621 nx_java_util_Deque_addLast__Ljava_lang_Object__V ⟨by decide, by decide⟩ (Nat.le_of_ble_eq_true rfl) dX7_reached_88) (zv_V ?_) (fun q => zx_thr x (fun z hz => (htab z hz).elim) q)
          exact z_sub [1, 0, 2, 3, 4] rfl (w_X7_reached_93 x hl hret hnm htab h20 h46 a0 (a2 ||| ((1 : Int32) <<< (a5 &&& 31))) a3 a4 a5)
        · exact z_sub [0, 1, 2, 3, 4] rfl (w_X7_reached_93 x hl hret hnm htab h20 h46 a0 a2 a3 a4 a5)
def s_X7_reached_20 (E : zE) : Nat → Option Nat → Int32 → Option Nat → zM
  | 0, _, _, _ => zFail
  | n + 1, a0, a2, a3 => zC (zRv a3 [(13, fun b => s_J3_isEmpty E (some b))]) zThr (zKI (fun v21 => if v21 = 0 then (zC (zRv a3 [(13, fun b => s_J3_removeFirst E (some b))]) zThr (zKR (fun v30 => zCsS 9 v30 (zC (zRv v30 [(9, fun b => s_J14_intValue E (some b))]) zThr (zKI (fun v38 => s_X7_reached_46 E (s_X7_reached_20 E n) zN a0 a2 a3 v38 (0 : Int32))))))) else (zRet (some (.int a2)))))
theorem w_X7_reached_20 (x : zCx p l R s m args meth c E D tA cX7_reached 6 yX7_reached.cls 13) (hl : l.stackTraces = false) (hret : meth.sig.returnType = (Option.some Jvm.ClassFile.FieldType.int)) (hnm : meth.name = yX7_reached.name) (htab : ∀ z ∈ c.exceptionTable.toList, False) : ∀ (n : Nat) (a0 : Option Nat) (a2 : Int32) (a3 : Option Nat), zW p l e R s m args below meth c E D tA 6 k0 (s_X7_reached_20 E n a0 a2 a3) [(0, zP a0), (2, zI a2), (3, zP a3)] 20 [] := by
  intro n
  induction n with
  | zero => intro a0 a2 a3; exact z_fail
  | succ n h20 =>
    intro a0 a2 a3
    rw [s_X7_reached_20]
    refine z_aload_n (pc := 20) x 2 dX7_reached_20 rfl rfl ?_
    refine z_call (pc := 21) (z_canIG (pc := 21) (As := []) (st := []) (x9 := ⟨"java/util/Deque", "isEmpty", "()Z"⟩) (J := "java/util/Collection") x (ci := 13) rfl (fun b => m_J3_isEmpty hl (some b)) (List.mem_of_getElem? (i := 2) rfl) q2018 q2017 (List.mem_of_getElem? (i := 3) rfl) (by decide) (by decide) (by decide) q2019 q2021 q2022 q2020 q1583 q116 q2023 nx_java_util_Deque_isEmpty___Z ⟨by decide, by decide⟩ (Nat.le_of_ble_eq_true rfl) dX7_reached_21) (zv_I fun v21 => ?_) (fun q => zx_thr x (fun z hz => (htab z hz).elim) q)
    refine z_if_ne (pc := 26) (tgt := 102) x dX7_reached_26 rfl (fun _ => ?_) (fun _ => ?_)
    · refine z_aload_n (pc := 29) x 2 dX7_reached_29 rfl rfl ?_
      refine z_call (pc := 30) (z_canIF (pc := 30) (As := []) (st := []) (x9 := ⟨"java/util/Deque", "removeFirst", "()Ljava/lang/Object;"⟩) x (ci := 13) rfl (fun b => m_J3_removeFirst hl (some b)) q2025 q1595 q1594 (by decide) q1596 q1598 q1599 q1597 q1583 q116 q1600 nx_java_util_Deque_removeFirst___Ljava_lang_Object_ ⟨by decide, by decide⟩ (Nat.le_of_ble_eq_true rfl) dX7_reached_30) (zv_R fun v30 => ?_) (fun q => zx_thr x (fun z hz => (htab z hz).elim) q)
      refine z_csS (pc := 35) x (ci := 9) rfl q2026 dX7_reached_35 ?_
      refine z_call (pc := 38) (z_canV (pc := 38) (As := []) (st := []) x (ci := 9) rfl (fun b => m_J14_intValue hl (some b)) q2027 q2028 (x.2.2.2.2.1 _ q2029) q128 q2030 n_J14_intValue ⟨by decide, by decide⟩ (Nat.le_of_ble_eq_true rfl) dX7_reached_38) (zv_I fun v38 => ?_) (fun q => zx_thr x (fun z hz => (htab z hz).elim) q)
      refine z_istore (pc := 41) (lv' := [(4, zI v38), (0, zP a0), (2, zI a2), (3, zP a3)]) x dX7_reached_41 (Nat.le_of_ble_eq_true rfl) rfl ?_
      refine z_iconst (pc := 43) x (v := (0 : Int32)) dX7_reached_43 rfl ?_
      refine z_istore (pc := 44) (lv' := [(5, zI (0 : Int32)), (4, zI v38), (0, zP a0), (2, zI a2), (3, zP a3)]) x dX7_reached_44 (Nat.le_of_ble_eq_true rfl) rfl ?_
      exact z_sub [2, 3, 4, 1, 0] rfl (w_X7_reached_46 x hl hret hnm htab h20 zN a0 a2 a3 v38 (0 : Int32))
    · refine z_iload_n (pc := 102) x 1 dX7_reached_102 rfl rfl ?_
      exact z_iret (pc := 103) x hret dX7_reached_103
def s_X7_reached (E : zE) (a0 : Option Nat) (a1 : Int32) : zM := zNew 13 3 [.null, .int 0, .int 0] (fun v2 => zC (zSp v2 (fun b => s_J3_init E (some b))) zThr (zKV (zC (s_J14_valueOf E a1) zThr (zKR (fun v12 => zC (zRv v2 [(13, fun b => s_J3_addLast E (some b) v12)]) zThr (zKV (s_X7_reached_20 E zN a0 (0 : Int32) v2)))))))
theorem m_X7_reached {l : Launch} {E : zE} {D : va_G} {tA : Nat → ClassId} (hl : l.stackTraces = false) (a0 : Option Nat) (a1 : Int32) : zMet l E D tA yX7_reached (ws_ yX7_reached cX7_reached 6 (Option.some Jvm.ClassFile.FieldType.int)) 13 (s_X7_reached E a0 a1) [zP a0, zI a1] := by
  refine z_met hl (by decide +kernel) (by rw [zSl_len]; exact (Nat.le_of_ble_eq_true rfl)) fun p e R s m args below meth c k0 x hret hnm htab => ?_
  refine z_lv [(0, zP a0), (1, zI a1)] rfl ?_
  unfold s_X7_reached
  refine z_iconst (pc := 0) x (v := (0 : Int32)) dX7_reached_0 rfl ?_
  refine z_istore_n (pc := 1) (lv' := [(2, zI (0 : Int32)), (0, zP a0), (1, zI a1)]) x dX7_reached_1 rfl (Nat.le_of_ble_eq_true rfl) rfl ?_
  refine z_new (pc := 2) x in_J3 tyJ3 tyJ3_ok q1992 q269 q116 (ci := 13) rfl (by decide) (by decide +kernel) dX7_reached_2 fun v2 => ?_
  refine z_dup (pc := 5) x dX7_reached_5 rfl ?_
  refine z_call (pc := 6) (z_canI (pc := 6) (ret := none) (As := []) (st := [zP v2]) x (fun b => m_J3_init hl (some b)) q1993 rfl q271 q116 q272 n_J3_init ⟨by decide, by decide⟩ (Nat.le_of_ble_eq_true rfl) dX7_reached_6) (zv_V ?_) (fun q => zx_thr x (fun z hz => (htab z hz).elim) q)
  refine z_astore_n (pc := 9) (lv' := [(3, zP v2), (2, zI (0 : Int32)), (0, zP a0), (1, zI a1)]) x dX7_reached_9 rfl (Nat.le_of_ble_eq_true rfl) rfl ?_
  refine z_aload_n (pc := 10) x 0 dX7_reached_10 rfl rfl ?_
  refine z_iload_n (pc := 11) x 3 dX7_reached_11 rfl rfl ?_
  refine z_call (pc := 12) (z_canS (pc := 12) (As := [zI a1]) (st := [zP v2]) x (m_J14_valueOf hl a1) q1994 q1995 q128 q1996 n_J14_valueOf ⟨by decide, by decide⟩ (Nat.le_of_ble_eq_true rfl) dX7_reached_12) (zv_R fun v12 => ?_) (fun q => zx_thr x (fun z hz => (htab z hz).elim) q)
  refine z_call (pc := 15) (z_canIF (pc := 15) (As := [zP v12]) (st := []) (x9 := ⟨"java/util/Deque", "addLast", "(Ljava/lang/Object;)V"⟩) x (ci := 13) rfl (fun b => m_J3_addLast hl (some b) v12) q2015 q1616 q1615 (by decide) q1617 q1619 q1620 q1618 q1583 q116 q1621 nx_java_util_Deque_addLast__Ljava_lang_Object__V ⟨by decide, by decide⟩ (Nat.le_of_ble_eq_true rfl) dX7_reached_15) (zv_V ?_) (fun q => zx_thr x (fun z hz => (htab z hz).elim) q)
  exact z_sub [2, 1, 0] rfl (w_X7_reached_20 x hl hret hnm htab zN a0 (0 : Int32) v2)
/-! X2_isRecursive -/
def s_X2_isRecursive_130 (E : zE) (k25 : Option Nat → Option Nat → Int32 → Option Nat → zM) (a1 : Option Nat) (a2 : Option Nat) (a3 : Int32) (a4 : Option Nat) : zM := k25 a1 a2 a3 a4
theorem w_X2_isRecursive_130 (x : zCx p l R s m args meth c E D tA cX2_isRecursive 8 yX2_isRecursive.cls 15) (hl : l.stackTraces = false) (hret : meth.sig.returnType = (Option.some Jvm.ClassFile.FieldType.boolean)) (hnm : meth.name = yX2_isRecursive.name) (htab : ∀ z ∈ c.exceptionTable.toList, False) {k25 : Option Nat → Option Nat → Int32 → Option Nat → zM} (h25 : ∀ (a1 : Option Nat) (a2 : Option Nat) (a3 : Int32) (a4 : Option Nat) , zW p l e R s m args below meth c E D tA 8 k0 (k25 a1 a2 a3 a4) [(1, zP a1), (2, zP a2), (3, zI a3), (4, zP a4)] 25 []) (a1 : Option Nat) (a2 : Option Nat) (a3 : Int32) (a4 : Option Nat) : zW p l e R s m args below meth c E D tA 8 k0 (s_X2_isRecursive_130 E k25 a1 a2 a3 a4) [(1, zP a1), (2, zP a2), (3, zI a3), (4, zP a4)] 130 [] := by
  unfold s_X2_isRecursive_130
  refine z_goto (pc := 130) (tgt := 25) x dX2_isRecursive_130 rfl ?_
  exact z_sub [0, 1, 2, 3] rfl (h25 a1 a2 a3 a4)
def s_X2_isRecursive_128 (E : zE) (k25 : Option Nat → Option Nat → Int32 → Option Nat → zM) (a1 : Option Nat) (a2 : Option Nat) (a4 : Option Nat) (b0 : Int32) (b1 : Int32) : zM := s_X2_isRecursive_130 E k25 a1 a2 (b0 ||| b1) a4
theorem w_X2_isRecursive_128 (x : zCx p l R s m args meth c E D tA cX2_isRecursive 8 yX2_isRecursive.cls 15) (hl : l.stackTraces = false) (hret : meth.sig.returnType = (Option.some Jvm.ClassFile.FieldType.boolean)) (hnm : meth.name = yX2_isRecursive.name) (htab : ∀ z ∈ c.exceptionTable.toList, False) {k25 : Option Nat → Option Nat → Int32 → Option Nat → zM} (h25 : ∀ (a1 : Option Nat) (a2 : Option Nat) (a3 : Int32) (a4 : Option Nat) , zW p l e R s m args below meth c E D tA 8 k0 (k25 a1 a2 a3 a4) [(1, zP a1), (2, zP a2), (3, zI a3), (4, zP a4)] 25 []) (a1 : Option Nat) (a2 : Option Nat) (a4 : Option Nat) (b0 : Int32) (b1 : Int32) : zW p l e R s m args below meth c E D tA 8 k0 (s_X2_isRecursive_128 E k25 a1 a2 a4 b0 b1) [(1, zP a1), (2, zP a2), (4, zP a4)] 128 [zI b1, zI b0] := by
  unfold s_X2_isRecursive_128
  refine z_ior (pc := 128) x dX2_isRecursive_128 ?_
  refine z_istore_n (pc := 129) (lv' := [(3, zI (b0 ||| b1)), (1, zP a1), (2, zP a2), (4, zP a4)]) x dX2_isRecursive_129 rfl (Nat.le_of_ble_eq_true rfl) rfl ?_
  exact z_sub [1, 2, 0, 3] rfl (w_X2_isRecursive_130 x hl hret hnm htab h25 a1 a2 (b0 ||| b1) a4)
def s_X2_isRecursive_123 (E : zE) (k25 : Option Nat → Option Nat → Int32 → Option Nat → zM) (a1 : Option Nat) (a2 : Option Nat) (a4 : Option Nat) (b0 : Int32) : zM := s_X2_isRecursive_128 E k25 a1 a2 a4 b0 (1 : Int32)
theorem w_X2_isRecursive_123 (x : zCx p l R s m args meth c E D tA cX2_isRecursive 8 yX2_isRecursive.cls 15) (hl : l.stackTraces = false) (hret : meth.sig.returnType = (Option.some Jvm.ClassFile.FieldType.boolean)) (hnm : meth.name = yX2_isRecursive.name) (htab : ∀ z ∈ c.exceptionTable.toList, False) {k25 : Option Nat → Option Nat → Int32 → Option Nat → zM} (h25 : ∀ (a1 : Option Nat) (a2 : Option Nat) (a3 : Int32) (a4 : Option Nat) , zW p l e R s m args below meth c E D tA 8 k0 (k25 a1 a2 a3 a4) [(1, zP a1), (2, zP a2), (3, zI a3), (4, zP a4)] 25 []) (a1 : Option Nat) (a2 : Option Nat) (a4 : Option Nat) (b0 : Int32) : zW p l e R s m args below meth c E D tA 8 k0 (s_X2_isRecursive_123 E k25 a1 a2 a4 b0) [(1, zP a1), (2, zP a2), (4, zP a4)] 123 [zI b0] := by
  unfold s_X2_isRecursive_123
  refine z_iconst (pc := 123) x (v := (1 : Int32)) dX2_isRecursive_123 rfl ?_
  refine z_goto (pc := 124) (tgt := 128) x dX2_isRecursive_124 rfl ?_
  exact z_sub [0, 1, 2] rfl (w_X2_isRecursive_128 x hl hret hnm htab h25 a1 a2 a4 b0 (1 : Int32))
def s_X2_isRecursive_103 (E : zE) (k25 : Option Nat → Option Nat → Int32 → Option Nat → zM) (a1 : Option Nat) (a2 : Option Nat) (a3 : Int32) (a4 : Option Nat) (a6 : Int32) (b0 : Int32) : zM := zGetR a1 31 0 (fun v109 => zGetI v109 37 0 (fun v112 => if a6 = v112 then (s_X2_isRecursive_123 E k25 a1 a2 a4 a3) else (if b0 = 0 then (s_X2_isRecursive_128 E k25 a1 a2 a4 a3 (0 : Int32)) else (s_X2_isRecursive_123 E k25 a1 a2 a4 a3))))
theorem w_X2_isRecursive_103 (x : zCx p l R s m args meth c E D tA cX2_isRecursive 8 yX2_isRecursive.cls 15) (hl : l.stackTraces = false) (hret : meth.sig.returnType = (Option.some Jvm.ClassFile.FieldType.boolean)) (hnm : meth.name = yX2_isRecursive.name) (htab : ∀ z ∈ c.exceptionTable.toList, False) {k25 : Option Nat → Option Nat → Int32 → Option Nat → zM} (h25 : ∀ (a1 : Option Nat) (a2 : Option Nat) (a3 : Int32) (a4 : Option Nat) , zW p l e R s m args below meth c E D tA 8 k0 (k25 a1 a2 a3 a4) [(1, zP a1), (2, zP a2), (3, zI a3), (4, zP a4)] 25 []) (a1 : Option Nat) (a2 : Option Nat) (a3 : Int32) (a4 : Option Nat) (a6 : Int32) (b0 : Int32) : zW p l e R s m args below meth c E D tA 8 k0 (s_X2_isRecursive_103 E k25 a1 a2 a3 a4 a6 b0) [(1, zP a1), (2, zP a2), (3, zI a3), (4, zP a4), (6, zI a6)] 103 [zI b0] := by
  unfold s_X2_isRecursive_103
  refine z_istore (pc := 103) (lv' := [(7, zI b0), (1, zP a1), (2, zP a2), (3, zI a3), (4, zP a4), (6, zI a6)]) x dX2_isRecursive_103 (Nat.le_of_ble_eq_true rfl) rfl ?_
  refine z_iload_n (pc := 105) x 3 dX2_isRecursive_105 rfl rfl ?_
  refine z_iload (pc := 106) x 5 dX2_isRecursive_106 rfl ?_
  refine z_aload_n (pc := 108) x 1 dX2_isRecursive_108 rfl rfl ?_
  refine z_getN (pc := 109) (fun _ _ h => zAsR_eq h) x in_X25 (ci := 31) rfl (k := 0) (by decide) q2499 (fun _ h => h) dX2_isRecursive_109 fun v109 => ?_
  refine z_getN (pc := 112) (fun _ _ h => zAsI_eq h) x in_X9 (ci := 37) rfl (k := 0) (by decide) q2367 (fun _ h => h) dX2_isRecursive_112 fun v112 => ?_
  refine z_icmp_eq (pc := 115) (tgt := 123) x dX2_isRecursive_115 rfl (fun _ => ?_) (fun _ => ?_)
  · exact z_sub [1, 2, 4] rfl (w_X2_isRecursive_123 x hl hret hnm htab h25 a1 a2 a4 a3)
  · refine z_iload (pc := 118) x 0 dX2_isRecursive_118 rfl ?_
    refine z_if_eq (pc := 120) (tgt := 127) x dX2_isRecursive_120 rfl (fun _ => ?_) (fun _ => ?_)
    · refine z_iconst (pc := 127) x (v := (0 : Int32)) dX2_isRecursive_127 rfl ?_
      exact z_sub [1, 2, 4] rfl (w_X2_isRecursive_128 x hl hret hnm htab h25 a1 a2 a4 a3 (0 : Int32))
    · exact z_sub [1, 2, 4] rfl (w_X2_isRecursive_123 x hl hret hnm htab h25 a1 a2 a4 a3)
def s_X2_isRecursive_25 (E : zE) : Nat → Option Nat → Option Nat → Int32 → Option Nat → zM
  | 0, _, _, _, _ => zFail
  | n + 1, a1, a2, a3, a4 => zC (zRv a4 [(11, fun b => s_J22_hasNext E (some b))]) zThr (zKI (fun v27 => if v27 = 0 then (zRetN .boolean a3) else (zC (zRv a4 [(11, fun b => s_J22_next E (some b))]) zThr (zKR (fun v37 => zCst 12 v37 (zC (zRv v37 [(29, fun b => s_X23_atom E (some b)), (30, fun b => s_X26_atom E (some b))]) zThr (zKR (fun v49 => zC (zRv v49 [(12, fun b => s_J23_isPresent E (some b))]) zThr (zKI (fun v54 => if v54 = 0 then (s_X2_isRecursive_130 E (s_X2_isRecursive_25 E n) a1 a2 a3 a4) else (zC (zRv v37 [(29, fun b => s_X23_atom E (some b)), (30, fun b => s_X26_atom E (some b))]) zThr (zKR (fun v62 => zC (zRv v62 [(12, fun b => s_J23_get E (some b))]) zThr (zKR (fun v67 => zCsS 37 v67 (zGetI v67 37 0 (fun v73 => zC (zRv a2 [(35, fun b => s_X7_reached E (some b) v73)]) zThr (zKI (fun v81 => zGetR a1 31 0 (fun v85 => zGetI v85 37 0 (fun v88 => if ((v81 >>> (v88 &&& 31)) &&& (1 : Int32)) = (1 : Int32) then (s_X2_isRecursive_103 E (s_X2_isRecursive_25 E n) a1 a2 a3 a4 v73 (1 : Int32)) else (s_X2_isRecursive_103 E (s_X2_isRecursive_25 E n) a1 a2 a3 a4 v73 (0 : Int32)))))))))))))))))))))))
theorem w_X2_isRecursive_25 (x : zCx p l R s m args meth c E D tA cX2_isRecursive 8 yX2_isRecursive.cls 15) (hl : l.stackTraces = false) (hret : meth.sig.returnType = (Option.some Jvm.ClassFile.FieldType.boolean)) (hnm : meth.name = yX2_isRecursive.name) (htab : ∀ z ∈ c.exceptionTable.toList, False) : ∀ (n : Nat) (a1 : Option Nat) (a2 : Option Nat) (a3 : Int32) (a4 : Option Nat), zW p l e R s m args below meth c E D tA 8 k0 (s_X2_isRecursive_25 E n a1 a2 a3 a4) [(1, zP a1), (2, zP a2), (3, zI a3), (4, zP a4)] 25 [] := by
  intro n
  induction n with
  | zero => intro a1 a2 a3 a4; exact z_fail
  | succ n h25 =>
    intro a1 a2 a3 a4
    rw [s_X2_isRecursive_25]
    refine z_aload (pc := 25) x 3 dX2_isRecursive_25 rfl ?_
    refine z_call (pc := 27) (z_canIF (pc := 27) (As := []) (st := []) (x9 := ⟨"java/util/Iterator", "hasNext", "()Z"⟩) x (ci := 11) rfl (fun b => m_J22_hasNext hl (some b)) q653 q413 q412 (by decide) q415 q417 q418 q416 q414 q139 q419 nx_java_util_Iterator_hasNext___Z ⟨by decide, by decide⟩ (Nat.le_of_ble_eq_true rfl) dX2_isRecursive_27) (zv_I fun v27 => ?_) (fun q => zx_thr x (fun z hz => (htab z hz).elim) q)
    refine z_if_eq (pc := 32) (tgt := 133) x dX2_isRecursive_32 rfl (fun _ => ?_) (fun _ => ?_)
    · refine z_iload_n (pc := 133) x 2 dX2_isRecursive_133 rfl rfl ?_
      exact z_zret (pc := 134) x hret dX2_isRecursive_134
    · refine z_aload (pc := 35) x 3 dX2_isRecursive_35 rfl ?_
      refine z_call (pc := 37) (z_canIF (pc := 37) (As := []) (st := []) (x9 := ⟨"java/util/Iterator", "next", "()Ljava/lang/Object;"⟩) x (ci := 11) rfl (fun b => m_J22_next hl (some b)) q655 q423 q422 (by decide) q424 q426 q427 q425 q414 q139 q428 nx_java_util_Iterator_next___Ljava_lang_Object_ ⟨by decide, by decide⟩ (Nat.le_of_ble_eq_true rfl) dX2_isRecursive_37) (zv_R fun v37 => ?_) (fun q => zx_thr x (fun z hz => (htab z hz).elim) q)
      refine z_cst (pc := 42) x (tg := 12) rfl q1982 dX2_isRecursive_42 ?_
      refine z_astore (pc := 45) (lv' := [(5, zP v37), (1, zP a1), (2, zP a2), (3, zI a3), (4, zP a4)]) x dX2_isRecursive_45 (Nat.le_of_ble_eq_true rfl) rfl ?_
      refine z_aload (pc := 47) x 0 dX2_isRecursive_47 rfl ?_
      refine z_call (pc := 49) (z_can_cons (z_canIF (pc := 49) (As := []) (st := []) (x9 := ⟨"BrambleLogic$Literal", "atom", "()Ljava/util/Optional;"⟩) x (ci := 29) rfl (fun b => m_X23_atom hl (some b)) q1984 q513 q512 (by decide) q515 q517 q518 q516 q514 q162 q519 nx_BrambleLogic_Literal_atom___Ljava_util_Optional_ ⟨by decide, by decide⟩ (Nat.le_of_ble_eq_true rfl) dX2_isRecursive_49) (z_can_cons (z_canID (pc := 49) (As := []) (st := []) (x9 := ⟨"BrambleLogic$Literal", "atom", "()Ljava/util/Optional;"⟩) x (ci := 30) rfl (fun b => m_X26_atom hl (some b)) q1984 q513 q512 (by decide) (List.mem_of_getElem? (i := 5) rfl) q538 q539 q536 q165 q540 nx_BrambleLogic_Literal_atom___Ljava_util_Optional_ ⟨by decide, by decide⟩ (Nat.le_of_ble_eq_true rfl) dX2_isRecursive_49) (z_can_nil))) (zv_R fun v49 => ?_) (fun q => zx_thr x (fun z hz => (htab z hz).elim) q)
      refine z_call (pc := 54) (z_canV (pc := 54) (As := []) (st := []) x (ci := 12) rfl (fun b => m_J23_isPresent hl (some b)) q1985 q547 (x.2.2.2.2.1 _ q548) q140 q549 n_J23_isPresent ⟨by decide, by decide⟩ (Nat.le_of_ble_eq_true rfl) dX2_isRecursive_54) (zv_I fun v54 => ?_) (fun q => zx_thr x (fun z hz => (htab z hz).elim) q)
      refine z_if_eq (pc := 57) (tgt := 130) x dX2_isRecursive_57 rfl (fun _ => ?_) (fun _ => ?_)
      · exact z_sub [1, 2, 3, 4] rfl (w_X2_isRecursive_130 x hl hret hnm htab h25 a1 a2 a3 a4)
      · refine z_aload (pc := 60) x 0 dX2_isRecursive_60 rfl ?_
        refine z_call (pc := 62) (z_can_cons (z_canIF (pc := 62) (As := []) (st := []) (x9 := ⟨"BrambleLogic$Literal", "atom", "()Ljava/util/Optional;"⟩) x (ci := 29) rfl (fun b => m_X23_atom hl (some b)) q1984 q513 q512 (by decide) q515 q517 q518 q516 q514 q162 q519 nx_BrambleLogic_Literal_atom___Ljava_util_Optional_ ⟨by decide, by decide⟩ (Nat.le_of_ble_eq_true rfl) dX2_isRecursive_62) (z_can_cons (z_canID (pc := 62) (As := []) (st := []) (x9 := ⟨"BrambleLogic$Literal", "atom", "()Ljava/util/Optional;"⟩) x (ci := 30) rfl (fun b => m_X26_atom hl (some b)) q1984 q513 q512 (by decide) (List.mem_of_getElem? (i := 5) rfl) q538 q539 q536 q165 q540 nx_BrambleLogic_Literal_atom___Ljava_util_Optional_ ⟨by decide, by decide⟩ (Nat.le_of_ble_eq_true rfl) dX2_isRecursive_62) (z_can_nil))) (zv_R fun v62 => ?_) (fun q => zx_thr x (fun z hz => (htab z hz).elim) q)
        refine z_call (pc := 67) (z_canV (pc := 67) (As := []) (st := []) x (ci := 12) rfl (fun b => m_J23_get hl (some b)) q1986 q551 (x.2.2.2.2.1 _ q552) q140 q553 n_J23_get ⟨by decide, by decide⟩ (Nat.le_of_ble_eq_true rfl) dX2_isRecursive_67) (zv_R fun v67 => ?_) (fun q => zx_thr x (fun z hz => (htab z hz).elim) q)
        refine z_csS (pc := 70) x (ci := 37) rfl q1987 dX2_isRecursive_70 ?_
        refine z_getN (pc := 73) (fun _ _ h => zAsI_eq h) x in_X9 (ci := 37) rfl (k := 0) (by decide) q2367 (fun _ h => h) dX2_isRecursive_73 fun v73 => ?_
        refine z_istore (pc := 76) (lv' := [(6, zI v73), (5, zP v37), (1, zP a1), (2, zP a2), (3, zI a3), (4, zP a4)]) x dX2_isRecursive_76 (Nat.le_of_ble_eq_true rfl) rfl ?_
        refine z_aload_n (pc := 78) x 3 dX2_isRecursive_78 rfl rfl ?_
        refine z_iload (pc := 79) x 0 dX2_isRecursive_79 rfl ?_
        refine z_call (pc := 81) (z_canV (pc := 81) (As := [zI v73]) (st := []) x (ci := 35) rfl (fun b => m_X7_reached hl (some b) v73) q1988 q1989 (x.2.2.2.2.1 _ q1990) q138 q1991 n_X7_reached ⟨by decide, by decide⟩ (Nat.le_of_ble_eq_true rfl) dX2_isRecursive_81) (zv_I fun v81 => ?_) (fun q => zx_thr x (fun z hz => (htab z hz).elim) q)
        refine z_aload_n (pc := 84) x 2 dX2_isRecursive_84 rfl rfl ?_
        refine z_getN (pc := 85) (fun _ _ h => zAsR_eq h) x in_X25 (ci := 31) rfl (k := 0) (by decide) q2499 (fun _ h => h) dX2_isRecursive_85 fun v85 => ?_
        refine z_getN (pc := 88) (fun _ _ h => zAsI_eq h) x in_X9 (ci := 37) rfl (k := 0) (by decide) q2367 (fun _ h => h) dX2_isRecursive_88 fun v88 => ?_
        refine z_ishr (pc := 91) x dX2_isRecursive_91 ?_
        refine z_iconst (pc := 92) x (v := (1 : Int32)) dX2_isRecursive_92 rfl ?_
        refine z_iand (pc := 93) x dX2_isRecursive_93 ?_
        refine z_iconst (pc := 94) x (v := (1 : Int32)) dX2_isRecursive_94 rfl ?_
        refine z_icmp_ne (pc := 95) (tgt := 102) x dX2_isRecursive_95 rfl (fun _ => ?_) (fun _ => ?_)
        · refine z_iconst (pc := 98) x (v := (1 : Int32)) dX2_isRecursive_98 rfl ?_
          refine z_goto (pc := 99) (tgt := 103) x dX2_isRecursive_99 rfl ?_
          exact z_sub [2, 3, 4, 5, 0] rfl (w_X2_isRecursive_103 x hl hret hnm htab h25 a1 a2 a3 a4 v73 (1 : Int32))
        · refine z_iconst (pc := 102) x (v := (0 : Int32)) dX2_isRecursive_102 rfl ?_
          exact z_sub [2, 3, 4, 5, 0] rfl (w_X2_isRecursive_103 x hl hret hnm htab h25 a1 a2 a3 a4 v73 (0 : Int32))
def s_X2_isRecursive (E : zE) (a0 : Option Nat) (a1 : Option Nat) : zM := zNew 35 2 [.null, .null] (fun v0 => zGetR a0 26 1 (fun v5 => zC (zSp v0 (fun b => s_X7_init E (some b) v5)) zThr (zKV (zGetR a1 31 1 (fun v15 => zC (zRv v15 [(10, fun b => s_J2_iterator E (some b))]) zThr (zKR (fun v18 => s_X2_isRecursive_25 E zN a1 v0 (0 : Int32) v18)))))))
theorem m_X2_isRecursive {l : Launch} {E : zE} {D : va_G} {tA : Nat → ClassId} (hl : l.stackTraces = false) (a0 : Option Nat) (a1 : Option Nat) : zMet l E D tA yX2_isRecursive (ws_ yX2_isRecursive cX2_isRecursive 8 (Option.some Jvm.ClassFile.FieldType.boolean)) 15 (s_X2_isRecursive E a0 a1) [zP a0, zP a1] := by
  refine z_met hl (by decide +kernel) (by rw [zSl_len]; exact (Nat.le_of_ble_eq_true rfl)) fun p e R s m args below meth c k0 x hret hnm htab => ?_
  refine z_lv [(0, zP a0), (1, zP a1)] rfl ?_
  unfold s_X2_isRecursive
  refine z_new (pc := 0) x in_X7 tyX7 tyX7_ok q372 q373 q138 (ci := 35) rfl (by decide) (by decide +kernel) dX2_isRecursive_0 fun v0 => ?_
  refine z_dup (pc := 3) x dX2_isRecursive_3 rfl ?_
  refine z_aload_n (pc := 4) x 0 dX2_isRecursive_4 rfl rfl ?_
  refine z_get (pc := 5) (fun _ _ h => zAsR_eq h) x in_X2 (ci := 26) rfl (k := 1) (by decide) q252 (fun _ h => h) dX2_isRecursive_5 fun v5 => ?_
  refine z_call (pc := 8) (z_canI (pc := 8) (ret := none) (As := [zP v5]) (st := [zP v0]) x (fun b => m_X7_init hl (some b) v5) q374 rfl q375 q138 q376 n_X7_init ⟨by decide, by decide⟩ (Nat.le_of_ble_eq_true rfl) dX2_isRecursive_8) (zv_V ?_) (fun q => zx_thr x (fun z hz => (htab z hz).elim) q)
  refine z_astore_n (pc := 11) (lv' := [(2, zP v0), (0, zP a0), (1, zP a1)]) x dX2_isRecursive_11 rfl (Nat.le_of_ble_eq_true rfl) rfl ?_
  refine z_iconst (pc := 12) x (v := (0 : Int32)) dX2_isRecursive_12 rfl ?_
  refine z_istore_n (pc := 13) (lv' := [(3, zI (0 : Int32)), (2, zP v0), (0, zP a0), (1, zP a1)]) x dX2_isRecursive_13 rfl (Nat.le_of_ble_eq_true rfl) rfl ?_
  refine z_aload_n (pc := 14) x 3 dX2_isRecursive_14 rfl rfl ?_
  refine z_getN (pc := 15) (fun _ _ h => zAsR_eq h) x in_X25 (ci := 31) rfl (k := 1) (by decide) q2505 (fun _ h => h) dX2_isRecursive_15 fun v15 => ?_
  refine z_call (pc := 18) (z_canIF (pc := 18) (As := []) (st := []) (x9 := ⟨"java/util/List", "iterator", "()Ljava/util/Iterator;"⟩) x (ci := 10) rfl (fun b => m_J2_iterator hl (some b)) q651 q383 q382 (by decide) q385 q387 q388 q386 q384 q112 q389 nx_java_util_List_iterator___Ljava_util_Iterator_ ⟨by decide, by decide⟩ (Nat.le_of_ble_eq_true rfl) dX2_isRecursive_18) (zv_R fun v18 => ?_) (fun q => zx_thr x (fun z hz => (htab z hz).elim) q)
  refine z_astore (pc := 23) (lv' := [(4, zP v18), (3, zI (0 : Int32)), (2, zP v0), (0, zP a0), (1, zP a1)]) x dX2_isRecursive_23 (Nat.le_of_ble_eq_true rfl) rfl ?_
  exact z_sub [4, 2, 1, 0] rfl (w_X2_isRecursive_25 x hl hret hnm htab zN a1 v0 (0 : Int32) v18)
/-! X1_isRecursive -/
def s_X1_isRecursive (E : zE) (a0 : Option Nat) (a1 : Int32) : zM := zGetR a0 16 0 (fun v1 => zC (zRv a0 [(16, fun b => s_X1_requireRule E (some b) a1)]) zThr (zKR (fun v6 => zC (zRv v1 [(26, fun b => s_X2_isRecursive E (some b) v6)]) zThr (zKI (fun v9 => zRetN .boolean v9)))))
theorem m_X1_isRecursive {l : Launch} {E : zE} {D : va_G} {tA : Nat → ClassId} (hl : l.stackTraces = false) (a0 : Option Nat) (a1 : Int32) : zMet l E D tA yX1_isRecursive (ws_ yX1_isRecursive cX1_isRecursive 2 (Option.some Jvm.ClassFile.FieldType.boolean)) 16 (s_X1_isRecursive E a0 a1) [zP a0, zI a1] := by
  refine z_met hl (by decide +kernel) (by rw [zSl_len]; exact (Nat.le_of_ble_eq_true rfl)) fun p e R s m args below meth c k0 x hret hnm htab => ?_
  refine z_lv [(0, zP a0), (1, zI a1)] rfl ?_
  unfold s_X1_isRecursive
  refine z_aload_n (pc := 0) x 0 dX1_isRecursive_0 rfl rfl ?_
  refine z_get (pc := 1) (fun _ _ h => zAsR_eq h) x in_X1 (ci := 16) rfl (k := 0) (by decide) q320 (fun _ h => h) dX1_isRecursive_1 fun v1 => ?_
  refine z_aload_n (pc := 4) x 0 dX1_isRecursive_4 rfl rfl ?_
  refine z_iload_n (pc := 5) x 1 dX1_isRecursive_5 rfl rfl ?_
  refine z_call (pc := 6) (z_canV (pc := 6) (As := [zI a1]) (st := [zP v1]) x (ci := 16) rfl (fun b => m_X1_requireRule hl (some b) a1) q1962 q1964 (z_selP x (ci := 16) rfl (by decide) (zNi_inst x q168) q1963 q1964) q108 q1965 n_X1_requireRule ⟨by decide, by decide⟩ (Nat.le_of_ble_eq_true rfl) dX1_isRecursive_6) (zv_R fun v6 => ?_) (fun q => zx_thr x (fun z hz => (htab z hz).elim) q)
  refine z_call (pc := 9) (z_canV (pc := 9) (As := [zP v6]) (st := []) x (ci := 26) rfl (fun b => m_X2_isRecursive hl (some b) v6) q1978 q1979 (x.2.2.2.2.1 _ q1980) q109 q1981 n_X2_isRecursive ⟨by decide, by decide⟩ (Nat.le_of_ble_eq_true rfl) dX1_isRecursive_9) (zv_I fun v9 => ?_) (fun q => zx_thr x (fun z hz => (htab z hz).elim) q)
  exact z_zret (pc := 12) x hret dX1_isRecursive_12
/-! X0_isRecursive -/
def s_X0_isRecursive_15 (E : zE) (b0 : Option Nat) (b1 : Int32) (b2 : Int64) : zM := zSaL E 3 b0 b1 b2 (zRet (some (.int (0 : Int32))))
theorem w_X0_isRecursive_15 (x : zCx p l R s m args meth c E D tA cX0_isRecursive 4 yX0_isRecursive.cls 17) (hl : l.stackTraces = false) (hret : meth.sig.returnType = (Option.some Jvm.ClassFile.FieldType.int)) (hnm : meth.name = yX0_isRecursive.name) (htab : c.exceptionTable.toList = tableOf [(0, 16, 19, 28)]) (b0 : Option Nat) (b1 : Int32) (b2 : Int64) : zW p l e R s m args below meth c E D tA 4 k0 (s_X0_isRecursive_15 E b0 b1 b2) [] 15 [zL b2, zI b1, zP b0] := by
  unfold s_X0_isRecursive_15
  refine z_last (pc := 15) x (t := 3) rfl dX0_isRecursive_15 ?_
  refine z_goto (pc := 16) (tgt := 22) x dX0_isRecursive_16 rfl ?_
  refine z_iconst (pc := 22) x (v := (0 : Int32)) dX0_isRecursive_22 rfl ?_
  exact z_iret (pc := 23) x hret dX0_isRecursive_23
def s_X0_isRecursive_19 (E : zE) (b0 : Option Nat) : zM := zRet (some (.int (1 : Int32)))
theorem w_X0_isRecursive_19 (x : zCx p l R s m args meth c E D tA cX0_isRecursive 4 yX0_isRecursive.cls 17) (hl : l.stackTraces = false) (hret : meth.sig.returnType = (Option.some Jvm.ClassFile.FieldType.int)) (hnm : meth.name = yX0_isRecursive.name) (htab : c.exceptionTable.toList = tableOf [(0, 16, 19, 28)]) (b0 : Option Nat) : zW p l e R s m args below meth c E D tA 4 k0 (s_X0_isRecursive_19 E b0) [] 19 [zP b0] := by
  unfold s_X0_isRecursive_19
  refine z_astore_n (pc := 19) (lv' := [(3, zP b0)]) x dX0_isRecursive_19 rfl (Nat.le_of_ble_eq_true rfl) rfl ?_
  refine z_iconst (pc := 20) x (v := (1 : Int32)) dX0_isRecursive_20 rfl ?_
  exact z_iret (pc := 21) x hret dX0_isRecursive_21
def s_X0_isRecursive (E : zE) (a0 : Option Nat) (a1 : Int32) (a2 : Option Nat) : zM := zC (zRv a0 [(16, fun b => s_X1_isRecursive E (some b) a1)]) (fun q => zCat1 q [(8, s_X0_isRecursive_19 E (some q))]) (zKI (fun v4 => if v4 = 0 then (s_X0_isRecursive_15 E a2 (0 : Int32) (0 : Int64)) else (s_X0_isRecursive_15 E a2 (0 : Int32) (1 : Int64))))
theorem m_X0_isRecursive {l : Launch} {E : zE} {D : va_G} {tA : Nat → ClassId} (hl : l.stackTraces = false) (a0 : Option Nat) (a1 : Int32) (a2 : Option Nat) : zMet l E D tA yX0_isRecursive (wsW_ yX0_isRecursive cX0_isRecursive 4 (Option.some Jvm.ClassFile.FieldType.int) [(0, 16, 19, 28)]) 17 (s_X0_isRecursive E a0 a1 a2) [zP a0, zI a1, zP a2] := by
  refine z_metW hl (by decide +kernel) (by rw [zSl_len]; exact (Nat.le_of_ble_eq_true rfl)) fun p e R s m args below meth c k0 x hret hnm htab => ?_
  refine z_lv [(0, zP a0), (1, zI a1), (2, zP a2)] rfl ?_
  unfold s_X0_isRecursive
  refine z_aload_n (pc := 0) x 2 dX0_isRecursive_0 rfl rfl ?_
  refine z_iconst (pc := 1) x (v := (0 : Int32)) dX0_isRecursive_1 rfl ?_
  refine z_aload_n (pc := 2) x 0 dX0_isRecursive_2 rfl rfl ?_
  refine z_iload_n (pc := 3) x 1 dX0_isRecursive_3 rfl rfl ?_
  refine z_call (pc := 4) (z_canV (pc := 4) (As := [zI a1]) (st := [zI (0 : Int32), zP a2]) x (ci := 16) rfl (fun b => m_X1_isRecursive hl (some b) a1) q1974 q1975 (x.2.2.2.2.1 _ q1976) q108 q1977 n_X1_isRecursive ⟨by decide, by decide⟩ (Nat.le_of_ble_eq_true rfl) dX0_isRecursive_4) (zv_I fun v4 => ?_) (fun q => zx_cat x [(8, s_X0_isRecursive_19 E (some q), ⟨0, 16, 19, 28⟩)] htab (List.forall_mem_cons.mpr ⟨⟨rfl, (show (28 : Nat) ≠ 0 by decide), q1673, z_sub [] rfl (w_X0_isRecursive_19 x hl hret hnm htab (some q))⟩, (fun _ hj => nomatch hj)⟩))
  refine z_if_eq (pc := 7) (tgt := 14) x dX0_isRecursive_7 rfl (fun _ => ?_) (fun _ => ?_)
  · refine z_lconst (pc := 14) x (v := (0 : Int64)) dX0_isRecursive_14 rfl ?_
    exact z_sub [] rfl (w_X0_isRecursive_15 x hl hret hnm htab a2 (0 : Int32) (0 : Int64))
  · refine z_lconst (pc := 10) x (v := (1 : Int64)) dX0_isRecursive_10 rfl ?_
    refine z_goto (pc := 11) (tgt := 15) x dX0_isRecursive_11 rfl ?_
    exact z_sub [] rfl (w_X0_isRecursive_15 x hl hret hnm htab a2 (0 : Int32) (1 : Int64))
/-! X19_init -/
def s_X19_init (E : zE) (a0 : Option Nat) : zM := zC (zSp a0 (fun b => s_X10_init E (some b))) zThr (zKV (zRet none))
theorem m_X19_init {l : Launch} {E : zE} {D : va_G} {tA : Nat → ClassId} (hl : l.stackTraces = false) (a0 : Option Nat) : zMet l E D tA yX19_init (ws_ yX19_init cX19_init 1 (Option.none : Option Jvm.ClassFile.FieldType)) 10 (s_X19_init E a0) [zP a0] := by
  refine z_met hl (by decide +kernel) (by rw [zSl_len]; exact (Nat.le_of_ble_eq_true rfl)) fun p e R s m args below meth c k0 x hret hnm htab => ?_
  refine z_lv [(0, zP a0)] rfl ?_
  unfold s_X19_init
  refine z_aload_n (pc := 0) x 0 dX19_init_0 rfl rfl ?_
  refine z_call (pc := 1) (z_canIN (pc := 1) (ret := none) (As := []) (st := []) x (fun b => m_X10_init hl (some b)) q2047 rfl q907 q146 q908 n_X10_init ⟨by decide, by decide⟩ (Nat.le_of_ble_eq_true rfl) dX19_init_1) (zv_V ?_) (fun q => zx_thr x (fun z hz => (htab z hz).elim) q)
  exact z_vret (pc := 4) x hret dX19_init_4
/-! X2_countSteps -/
def s_X2_countSteps (E : zE) (a0 : Option Nat) (a1 : Option Nat) : zM := zNew 25 1 [.int 0] (fun v0 => zC (zSp v0 (fun b => s_X19_init E (some b))) zThr (zKV (zC (zRv a0 [(26, fun b => s_X2_facts E (some b))]) zThr (zKR (fun v11 => zC (zRv v0 [(25, fun b => s_X10_take E (some b) a1 v11)]) zThr (zKV (zGetI v0 25 0 (fun v18 => zRet (some (.int v18))))))))))
theorem m_X2_countSteps {l : Launch} {E : zE} {D : va_G} {tA : Nat → ClassId} (hl : l.stackTraces = false) (a0 : Option Nat) (a1 : Option Nat) : zMet l E D tA yX2_countSteps (ws_ yX2_countSteps cX2_countSteps 3 (Option.some Jvm.ClassFile.FieldType.int)) 73 (s_X2_countSteps E a0 a1) [zP a0, zP a1] := by
  refine z_met hl (by decide +kernel) (by rw [zSl_len]; exact (Nat.le_of_ble_eq_true rfl)) fun p e R s m args below meth c k0 x hret hnm htab => ?_
  refine z_lv [(0, zP a0), (1, zP a1)] rfl ?_
  unfold s_X2_countSteps
  refine z_new (pc := 0) x in_X19 tyX19 tyX19_ok q2042 q2043 q156 (ci := 25) rfl (by decide) (by decide +kernel) dX2_countSteps_0 fun v0 => ?_
  refine z_dup (pc := 3) x dX2_countSteps_3 rfl ?_
  refine z_call (pc := 4) (z_canIN (pc := 4) (ret := none) (As := []) (st := [zP v0]) x (fun b => m_X19_init hl (some b)) q2044 rfl q2045 q156 q2046 n_X19_init ⟨by decide, by decide⟩ (Nat.le_of_ble_eq_true rfl) dX2_countSteps_4) (zv_V ?_) (fun q => zx_thr x (fun z hz => (htab z hz).elim) q)
  refine z_astore_n (pc := 7) (lv' := [(2, zP v0), (0, zP a0), (1, zP a1)]) x dX2_countSteps_7 rfl (Nat.le_of_ble_eq_true rfl) rfl ?_
  refine z_aload_n (pc := 8) x 0 dX2_countSteps_8 rfl rfl ?_
  refine z_aload_n (pc := 9) x 2 dX2_countSteps_9 rfl rfl ?_
  refine z_aload_n (pc := 10) x 1 dX2_countSteps_10 rfl rfl ?_
  refine z_call (pc := 11) (z_canV (pc := 11) (As := []) (st := [zP a1, zP v0]) x (ci := 26) rfl (fun b => m_X2_facts hl (some b)) q984 q369 (x.2.2.2.2.1 _ q370) q109 q371 n_X2_facts ⟨by decide, by decide⟩ (Nat.le_of_ble_eq_true rfl) dX2_countSteps_11) (zv_R fun v11 => ?_) (fun q => zx_thr x (fun z hz => (htab z hz).elim) q)
  refine z_call (pc := 14) (z_canVU (pc := 14) (As := [zP a1, zP v11]) (st := []) (x9 := ⟨"BrambleLogic$Logic$Counting", "take", "(LBrambleLogic$Rule;LBrambleLogic$Facts;)V"⟩) (owner := "BrambleLogic$Steps") x (ci := 25) rfl (fun b => m_X10_take hl (some b) a1 v11) q2053 q2054 (zDecl_ab x q933) (by decide) q935 q2055 q146 q936 nx_BrambleLogic_Logic_Counting_take__LBrambleLogic_Rule_LBrambleLogic_Facts__V ⟨by decide, by decide⟩ (Nat.le_of_ble_eq_true rfl) dX2_countSteps_14) (zv_V ?_) (fun q => zx_thr x (fun z hz => (htab z hz).elim) q)
  refine z_aload_n (pc := 17) x 0 dX2_countSteps_17 rfl rfl ?_
  refine z_getN (pc := 18) (fun _ _ h => zAsI_eq h) x in_X19 (ci := 25) rfl (k := 0) (by decide) q2049 (fun _ h => h) dX2_countSteps_18 fun v18 => ?_
  exact z_iret (pc := 21) x hret dX2_countSteps_21
/-! X1_stepsOf -/
def s_X1_stepsOf (E : zE) (a0 : Option Nat) (a1 : Int32) : zM := zGetR a0 16 0 (fun v1 => zC (zRv a0 [(16, fun b => s_X1_requireRule E (some b) a1)]) zThr (zKR (fun v6 => zC (zRv v1 [(26, fun b => s_X2_countSteps E (some b) v6)]) zThr (zKI (fun v9 => zRet (some (.int v9)))))))
theorem m_X1_stepsOf {l : Launch} {E : zE} {D : va_G} {tA : Nat → ClassId} (hl : l.stackTraces = false) (a0 : Option Nat) (a1 : Int32) : zMet l E D tA yX1_stepsOf (ws_ yX1_stepsOf cX1_stepsOf 2 (Option.some Jvm.ClassFile.FieldType.int)) 74 (s_X1_stepsOf E a0 a1) [zP a0, zI a1] := by
  refine z_met hl (by decide +kernel) (by rw [zSl_len]; exact (Nat.le_of_ble_eq_true rfl)) fun p e R s m args below meth c k0 x hret hnm htab => ?_
  refine z_lv [(0, zP a0), (1, zI a1)] rfl ?_
  unfold s_X1_stepsOf
  refine z_aload_n (pc := 0) x 0 dX1_stepsOf_0 rfl rfl ?_
  refine z_get (pc := 1) (fun _ _ h => zAsR_eq h) x in_X1 (ci := 16) rfl (k := 0) (by decide) q320 (fun _ h => h) dX1_stepsOf_1 fun v1 => ?_
  refine z_aload_n (pc := 4) x 0 dX1_stepsOf_4 rfl rfl ?_
  refine z_iload_n (pc := 5) x 1 dX1_stepsOf_5 rfl rfl ?_
  refine z_call (pc := 6) (z_canV (pc := 6) (As := [zI a1]) (st := [zP v1]) x (ci := 16) rfl (fun b => m_X1_requireRule hl (some b) a1) q1962 q1964 (z_selP x (ci := 16) rfl (by decide) (zNi_inst x q168) q1963 q1964) q108 q1965 n_X1_requireRule ⟨by decide, by decide⟩ (Nat.le_of_ble_eq_true rfl) dX1_stepsOf_6) (zv_R fun v6 => ?_) (fun q => zx_thr x (fun z hz => (htab z hz).elim) q)
  refine z_call (pc := 9) (z_canV (pc := 9) (As := [zP v6]) (st := []) x (ci := 26) rfl (fun b => m_X2_countSteps hl (some b) v6) q2038 q2039 (x.2.2.2.2.1 _ q2040) q109 q2041 n_X2_countSteps ⟨by decide, by decide⟩ (Nat.le_of_ble_eq_true rfl) dX1_stepsOf_9) (zv_I fun v9 => ?_) (fun q => zx_thr x (fun z hz => (htab z hz).elim) q)
  exact z_iret (pc := 12) x hret dX1_stepsOf_12
/-! X0_stepsOf -/
def s_X0_stepsOf_12 (E : zE) (b0 : Option Nat) : zM := zRet (some (.int (1 : Int32)))
theorem w_X0_stepsOf_12 (x : zCx p l R s m args meth c E D tA cX0_stepsOf 4 yX0_stepsOf.cls 75) (hl : l.stackTraces = false) (hret : meth.sig.returnType = (Option.some Jvm.ClassFile.FieldType.int)) (hnm : meth.name = yX0_stepsOf.name) (htab : c.exceptionTable.toList = tableOf [(0, 9, 12, 28)]) (b0 : Option Nat) : zW p l e R s m args below meth c E D tA 4 k0 (s_X0_stepsOf_12 E b0) [] 12 [zP b0] := by
  unfold s_X0_stepsOf_12
  refine z_astore_n (pc := 12) (lv' := [(3, zP b0)]) x dX0_stepsOf_12 rfl (Nat.le_of_ble_eq_true rfl) rfl ?_
  refine z_iconst (pc := 13) x (v := (1 : Int32)) dX0_stepsOf_13 rfl ?_
  exact z_iret (pc := 14) x hret dX0_stepsOf_14
def s_X0_stepsOf (E : zE) (a0 : Option Nat) (a1 : Int32) (a2 : Option Nat) : zM := zC (zRv a0 [(16, fun b => s_X1_stepsOf E (some b) a1)]) (fun q => zCat1 q [(8, s_X0_stepsOf_12 E (some q))]) (zKI (fun v4 => zSaL E 3 a2 (0 : Int32) ((v4).toInt64) (zRet (some (.int (0 : Int32))))))
theorem m_X0_stepsOf {l : Launch} {E : zE} {D : va_G} {tA : Nat → ClassId} (hl : l.stackTraces = false) (a0 : Option Nat) (a1 : Int32) (a2 : Option Nat) : zMet l E D tA yX0_stepsOf (wsW_ yX0_stepsOf cX0_stepsOf 4 (Option.some Jvm.ClassFile.FieldType.int) [(0, 9, 12, 28)]) 75 (s_X0_stepsOf E a0 a1 a2) [zP a0, zI a1, zP a2] := by
  refine z_metW hl (by decide +kernel) (by rw [zSl_len]; exact (Nat.le_of_ble_eq_true rfl)) fun p e R s m args below meth c k0 x hret hnm htab => ?_
  refine z_lv [(0, zP a0), (1, zI a1), (2, zP a2)] rfl ?_
  unfold s_X0_stepsOf
  refine z_aload_n (pc := 0) x 2 dX0_stepsOf_0 rfl rfl ?_
  refine z_iconst (pc := 1) x (v := (0 : Int32)) dX0_stepsOf_1 rfl ?_
  refine z_aload_n (pc := 2) x 0 dX0_stepsOf_2 rfl rfl ?_
  refine z_iload_n (pc := 3) x 1 dX0_stepsOf_3 rfl rfl ?_
  refine z_call (pc := 4) (z_canV (pc := 4) (As := [zI a1]) (st := [zI (0 : Int32), zP a2]) x (ci := 16) rfl (fun b => m_X1_stepsOf hl (some b) a1) q2034 q2035 (x.2.2.2.2.1 _ q2036) q108 q2037 n_X1_stepsOf ⟨by decide, by decide⟩ (Nat.le_of_ble_eq_true rfl) dX0_stepsOf_4) (zv_I fun v4 => ?_) (fun q => zx_cat x [(8, s_X0_stepsOf_12 E (some q), ⟨0, 9, 12, 28⟩)] htab (List.forall_mem_cons.mpr ⟨⟨rfl, (show (28 : Nat) ≠ 0 by decide), q1673, z_sub [] rfl (w_X0_stepsOf_12 x hl hret hnm htab (some q))⟩, (fun _ hj => nomatch hj)⟩))
  refine z_i2l (pc := 7) x dX0_stepsOf_7 ?_
  refine z_last (pc := 8) x (t := 3) rfl dX0_stepsOf_8 ?_
  refine z_goto (pc := 9) (tgt := 15) x dX0_stepsOf_9 rfl ?_
  refine z_iconst (pc := 15) x (v := (0 : Int32)) dX0_stepsOf_15 rfl ?_
  exact z_iret (pc := 16) x hret dX0_stepsOf_16
/-! X1_layerOf -/
def s_X1_layerOf (E : zE) (a0 : Option Nat) (a1 : Int32) : zM := zC (s_X1_requirePredicate E a1) zThr (zKI (fun v1 => zNew 35 2 [.null, .null] (fun v5 => zGetR a0 16 0 (fun v10 => zGetR v10 26 1 (fun v13 => zC (zSp v5 (fun b => s_X7_init E (some b) v13)) zThr (zKV (zC (zRv v5 [(35, fun b => s_X7_layers E (some b))]) zThr (zKR (fun v19 => zGaI 0 v19 v1 (fun v23 => zRet (some (.int v23))))))))))))
theorem m_X1_layerOf {l : Launch} {E : zE} {D : va_G} {tA : Nat → ClassId} (hl : l.stackTraces = false) (a0 : Option Nat) (a1 : Int32) : zMet l E D tA yX1_layerOf (ws_ yX1_layerOf cX1_layerOf 3 (Option.some Jvm.ClassFile.FieldType.int)) 15 (s_X1_layerOf E a0 a1) [zP a0, zI a1] := by
  refine z_met hl (by decide +kernel) (by rw [zSl_len]; exact (Nat.le_of_ble_eq_true rfl)) fun p e R s m args below meth c k0 x hret hnm htab => ?_
  refine z_lv [(0, zP a0), (1, zI a1)] rfl ?_
  unfold s_X1_layerOf
  refine z_iload_n (pc := 0) x 1 dX1_layerOf_0 rfl rfl ?_
  refine z_call (pc := 1) (z_canS (pc := 1) (As := [zI a1]) (st := []) x (m_X1_requirePredicate hl a1) q1519 q1520 q108 q1521 n_X1_requirePredicate ⟨by decide, by decide⟩ (Nat.le_of_ble_eq_true rfl) dX1_layerOf_1) (zv_I fun v1 => ?_) (fun q => zx_thr x (fun z hz => (htab z hz).elim) q)
  refine z_istore_n (pc := 4) (lv' := [(2, zI v1), (0, zP a0), (1, zI a1)]) x dX1_layerOf_4 rfl (Nat.le_of_ble_eq_true rfl) rfl ?_
  refine z_new (pc := 5) x in_X7 tyX7 tyX7_ok q2063 q373 q138 (ci := 35) rfl (by decide) (by decide +kernel) dX1_layerOf_5 fun v5 => ?_
  refine z_dup (pc := 8) x dX1_layerOf_8 rfl ?_
  refine z_aload_n (pc := 9) x 1 dX1_layerOf_9 rfl rfl ?_
  refine z_get (pc := 10) (fun _ _ h => zAsR_eq h) x in_X1 (ci := 16) rfl (k := 0) (by decide) q320 (fun _ h => h) dX1_layerOf_10 fun v10 => ?_
  refine z_getN (pc := 13) (fun _ _ h => zAsR_eq h) x in_X2 (ci := 26) rfl (k := 1) (by decide) q255 (fun _ h => h) dX1_layerOf_13 fun v13 => ?_
  refine z_call (pc := 16) (z_canI (pc := 16) (ret := none) (As := [zP v13]) (st := [zP v5]) x (fun b => m_X7_init hl (some b) v13) q2064 rfl q375 q138 q376 n_X7_init ⟨by decide, by decide⟩ (Nat.le_of_ble_eq_true rfl) dX1_layerOf_16) (zv_V ?_) (fun q => zx_thr x (fun z hz => (htab z hz).elim) q)
  refine z_call (pc := 19) (z_canV (pc := 19) (As := []) (st := []) x (ci := 35) rfl (fun b => m_X7_layers hl (some b)) q2065 q602 (x.2.2.2.2.1 _ q603) q138 q604 n_X7_layers ⟨by decide, by decide⟩ (Nat.le_of_ble_eq_true rfl) dX1_layerOf_19) (zv_R fun v19 => ?_) (fun q => zx_thr x (fun z hz => (htab z hz).elim) q)
  refine z_iload_n (pc := 22) x 0 dX1_layerOf_22 rfl rfl ?_
  refine z_iald (pc := 23) x (t := 0) rfl dX1_layerOf_23 fun v23 => ?_
  exact z_iret (pc := 24) x hret dX1_layerOf_24
/-! X0_layerOf -/
def s_X0_layerOf_12 (E : zE) (b0 : Option Nat) : zM := zRet (some (.int (1 : Int32)))
theorem w_X0_layerOf_12 (x : zCx p l R s m args meth c E D tA cX0_layerOf 4 yX0_layerOf.cls 16) (hl : l.stackTraces = false) (hret : meth.sig.returnType = (Option.some Jvm.ClassFile.FieldType.int)) (hnm : meth.name = yX0_layerOf.name) (htab : c.exceptionTable.toList = tableOf [(0, 9, 12, 13)]) (b0 : Option Nat) : zW p l e R s m args below meth c E D tA 4 k0 (s_X0_layerOf_12 E b0) [] 12 [zP b0] := by
  unfold s_X0_layerOf_12
  refine z_astore_n (pc := 12) (lv' := [(3, zP b0)]) x dX0_layerOf_12 rfl (Nat.le_of_ble_eq_true rfl) rfl ?_
  refine z_iconst (pc := 13) x (v := (1 : Int32)) dX0_layerOf_13 rfl ?_
  exact z_iret (pc := 14) x hret dX0_layerOf_14
def s_X0_layerOf (E : zE) (a0 : Option Nat) (a1 : Int32) (a2 : Option Nat) : zM := zC (zRv a0 [(16, fun b => s_X1_layerOf E (some b) a1)]) (fun q => zCat1 q [(0, s_X0_layerOf_12 E (some q))]) (zKI (fun v4 => zSaL E 3 a2 (0 : Int32) ((v4).toInt64) (zRet (some (.int (0 : Int32))))))
theorem m_X0_layerOf {l : Launch} {E : zE} {D : va_G} {tA : Nat → ClassId} (hl : l.stackTraces = false) (a0 : Option Nat) (a1 : Int32) (a2 : Option Nat) : zMet l E D tA yX0_layerOf (wsW_ yX0_layerOf cX0_layerOf 4 (Option.some Jvm.ClassFile.FieldType.int) [(0, 9, 12, 13)]) 16 (s_X0_layerOf E a0 a1 a2) [zP a0, zI a1, zP a2] := by
  refine z_metW hl (by decide +kernel) (by rw [zSl_len]; exact (Nat.le_of_ble_eq_true rfl)) fun p e R s m args below meth c k0 x hret hnm htab => ?_
  refine z_lv [(0, zP a0), (1, zI a1), (2, zP a2)] rfl ?_
  unfold s_X0_layerOf
  refine z_aload_n (pc := 0) x 2 dX0_layerOf_0 rfl rfl ?_
  refine z_iconst (pc := 1) x (v := (0 : Int32)) dX0_layerOf_1 rfl ?_
  refine z_aload_n (pc := 2) x 0 dX0_layerOf_2 rfl rfl ?_
  refine z_iload_n (pc := 3) x 1 dX0_layerOf_3 rfl rfl ?_
  refine z_call (pc := 4) (z_canV (pc := 4) (As := [zI a1]) (st := [zI (0 : Int32), zP a2]) x (ci := 16) rfl (fun b => m_X1_layerOf hl (some b) a1) q2059 q2060 (x.2.2.2.2.1 _ q2061) q108 q2062 n_X1_layerOf ⟨by decide, by decide⟩ (Nat.le_of_ble_eq_true rfl) dX0_layerOf_4) (zv_I fun v4 => ?_) (fun q => zx_cat x [(0, s_X0_layerOf_12 E (some q), ⟨0, 9, 12, 13⟩)] htab (List.forall_mem_cons.mpr ⟨⟨rfl, (show (13 : Nat) ≠ 0 by decide), q1462, z_sub [] rfl (w_X0_layerOf_12 x hl hret hnm htab (some q))⟩, (fun _ hj => nomatch hj)⟩))
  refine z_i2l (pc := 7) x dX0_layerOf_7 ?_
  refine z_last (pc := 8) x (t := 3) rfl dX0_layerOf_8 ?_
  refine z_goto (pc := 9) (tgt := 15) x dX0_layerOf_9 rfl ?_
  refine z_iconst (pc := 15) x (v := (0 : Int32)) dX0_layerOf_15 rfl ?_
  exact z_iret (pc := 16) x hret dX0_layerOf_16
/-! X7_longestChain -/
def s_X7_longestChain_72 (E : zE) (r_X7_longestChain : Option Nat → Int32 → Int32 → zM) (k5 : Option Nat → Int32 → Int32 → Int32 → Int32 → zM) (a0 : Option Nat) (a1 : Int32) (a2 : Int32) (a3 : Int32) (a4 : Int32) : zM := k5 a0 a1 a2 a3 (a4 + (1 : Int32))
theorem w_X7_longestChain_72 {fr_X7_longestChain : Nat} {r_X7_longestChain : Option Nat → Int32 → Int32 → zM} (x : zCx p l R s m args meth c E D tA cX7_longestChain 6 yX7_longestChain.cls (fr_X7_longestChain + 1)) (hl : l.stackTraces = false) (hret : meth.sig.returnType = (Option.some Jvm.ClassFile.FieldType.int)) (hnm : meth.name = yX7_longestChain.name) (htab : ∀ z ∈ c.exceptionTable.toList, False) (hr_X7_longestChain : ∀ (a0 : Option Nat) (a1 : Int32) (a2 : Int32), zMet l E D tA yX7_longestChain (ws_ yX7_longestChain cX7_longestChain 6 (Option.some Jvm.ClassFile.FieldType.int)) fr_X7_longestChain (r_X7_longestChain a0 a1 a2) [zP a0, zI a1, zI a2]) (hB_X7_longestChain : 60 ≤ fr_X7_longestChain) {k5 : Option Nat → Int32 → Int32 → Int32 → Int32 → zM} (h5 : ∀ (a0 : Option Nat) (a1 : Int32) (a2 : Int32) (a3 : Int32) (a4 : Int32) , zW p l e R s m args below meth c E D tA 6 k0 (k5 a0 a1 a2 a3 a4) [(0, zP a0), (1, zI a1), (2, zI a2), (3, zI a3), (4, zI a4)] 5 []) (a0 : Option Nat) (a1 : Int32) (a2 : Int32) (a3 : Int32) (a4 : Int32) : zW p l e R s m args below meth c E D tA 6 k0 (s_X7_longestChain_72 E r_X7_longestChain k5 a0 a1 a2 a3 a4) [(0, zP a0), (1, zI a1), (2, zI a2), (3, zI a3), (4, zI a4)] 72 [] := by
  unfold s_X7_longestChain_72
  refine z_iinc (pc := 72) (lv' := [(4, zI (a4 + (1 : Int32))), (0, zP a0), (1, zI a1), (2, zI a2), (3, zI a3)]) x (v2 := (a4 + (1 : Int32))) 4 dX7_longestChain_72 rfl rfl (Nat.le_of_ble_eq_true rfl) rfl ?_
  refine z_goto (pc := 75) (tgt := 5) x dX7_longestChain_75 rfl ?_
  exact z_sub [1, 2, 3, 4, 0] rfl (h5 a0 a1 a2 a3 (a4 + (1 : Int32)))
def s_X7_longestChain_67 (E : zE) (r_X7_longestChain : Option Nat → Int32 → Int32 → zM) (k5 : Option Nat → Int32 → Int32 → Int32 → Int32 → zM) (a0 : Option Nat) (a1 : Int32) (a2 : Int32) (a4 : Int32) (b0 : Int32) (b1 : Int32) (b2 : Int32) : zM := s_X7_longestChain_72 E r_X7_longestChain k5 a0 a1 a2 (if b0 < (b1 + b2) then (b1 + b2) else b0) a4
theorem w_X7_longestChain_67 {fr_X7_longestChain : Nat} {r_X7_longestChain : Option Nat → Int32 → Int32 → zM} (x : zCx p l R s m args meth c E D tA cX7_longestChain 6 yX7_longestChain.cls (fr_X7_longestChain + 1)) (hl : l.stackTraces = false) (hret : meth.sig.returnType = (Option.some Jvm.ClassFile.FieldType.int)) (hnm : meth.name = yX7_longestChain.name) (htab : ∀ z ∈ c.exceptionTable.toList, False) (hr_X7_longestChain : ∀ (a0 : Option Nat) (a1 : Int32) (a2 : Int32), zMet l E D tA yX7_longestChain (ws_ yX7_longestChain cX7_longestChain 6 (Option.some Jvm.ClassFile.FieldType.int)) fr_X7_longestChain (r_X7_longestChain a0 a1 a2) [zP a0, zI a1, zI a2]) (hB_X7_longestChain : 60 ≤ fr_X7_longestChain) {k5 : Option Nat → Int32 → Int32 → Int32 → Int32 → zM} (h5 : ∀ (a0 : Option Nat) (a1 : Int32) (a2 : Int32) (a3 : Int32) (a4 : Int32) , zW p l e R s m args below meth c E D tA 6 k0 (k5 a0 a1 a2 a3 a4) [(0, zP a0), (1, zI a1), (2, zI a2), (3, zI a3), (4, zI a4)] 5 []) (a0 : Option Nat) (a1 : Int32) (a2 : Int32) (a4 : Int32) (b0 : Int32) (b1 : Int32) (b2 : Int32) : zW p l e R s m args below meth c E D tA 6 k0 (s_X7_longestChain_67 E r_X7_longestChain k5 a0 a1 a2 a4 b0 b1 b2) [(0, zP a0), (1, zI a1), (2, zI a2), (4, zI a4)] 67 [zI b2, zI b1, zI b0] := by
  unfold s_X7_longestChain_67
  refine z_iadd (pc := 67) x dX7_longestChain_67 ?_
  refine z_mmax (pc := 68) x q609 q610 q130 q611 (by omega) (zSum (k := 0) rfl (by omega)) dX7_longestChain_68 ?_
  refine z_istore_n (pc := 71) (lv' := [(3, zI (if b0 < (b1 + b2) then (b1 + b2) else b0)), (0, zP a0), (1, zI a1), (2, zI a2), (4, zI a4)]) x dX7_longestChain_71 rfl (Nat.le_of_ble_eq_true rfl) rfl ?_
  exact z_sub [1, 2, 3, 0, 4] rfl (w_X7_longestChain_72 x hl hret hnm htab hr_X7_longestChain hB_X7_longestChain h5 a0 a1 a2 (if b0 < (b1 + b2) then (b1 + b2) else b0) a4)
def s_X7_longestChain_5 (E : zE) (r_X7_longestChain : Option Nat → Int32 → Int32 → zM) : Nat → Option Nat → Int32 → Int32 → Int32 → Int32 → zM
  | 0, _, _, _, _, _ => zFail
  | n + 1, a0, a1, a2, a3, a4 => if (8 : Int32) ≤ a4 then (zRet (some (.int a3))) else (zGetR a0 35 0 (fun v13 => zGaR 8 v13 a1 (fun v17 => zGaI 2 v17 a4 (fun v20 => if v20 = 0 then (s_X7_longestChain_72 E r_X7_longestChain (s_X7_longestChain_5 E r_X7_longestChain n) a0 a1 a2 a3 a4) else (if ((a2 >>> (a4 &&& 31)) &&& (1 : Int32)) = 0 then (zC (zRv a0 [(35, fun b => r_X7_longestChain (some b) a4 (a2 ||| ((1 : Int32) <<< (a4 &&& 31))))]) zThr (zKI (fun v42 => zGetR a0 35 1 (fun v51 => zGaR 8 v51 a1 (fun v55 => zGaI 2 v55 a4 (fun v58 => if v58 = 0 then (s_X7_longestChain_67 E r_X7_longestChain (s_X7_longestChain_5 E r_X7_longestChain n) a0 a1 a2 a4 a3 v42 (0 : Int32)) else (s_X7_longestChain_67 E r_X7_longestChain (s_X7_longestChain_5 E r_X7_longestChain n) a0 a1 a2 a4 a3 v42 (1 : Int32)))))))) else (s_X7_longestChain_72 E r_X7_longestChain (s_X7_longestChain_5 E r_X7_longestChain n) a0 a1 a2 a3 a4))))))
theorem w_X7_longestChain_5 {fr_X7_longestChain : Nat} {r_X7_longestChain : Option Nat → Int32 → Int32 → zM} (x : zCx p l R s m args meth c E D tA cX7_longestChain 6 yX7_longestChain.cls (fr_X7_longestChain + 1)) (hl : l.stackTraces = false) (hret : meth.sig.returnType = (Option.some Jvm.ClassFile.FieldType.int)) (hnm : meth.name = yX7_longestChain.name) (htab : ∀ z ∈ c.exceptionTable.toList, False) (hr_X7_longestChain : ∀ (a0 : Option Nat) (a1 : Int32) (a2 : Int32), zMet l E D tA yX7_longestChain (ws_ yX7_longestChain cX7_longestChain 6 (Option.some Jvm.ClassFile.FieldType.int)) fr_X7_longestChain (r_X7_longestChain a0 a1 a2) [zP a0, zI a1, zI a2]) (hB_X7_longestChain : 60 ≤ fr_X7_longestChain) : ∀ (n : Nat) (a0 : Option Nat) (a1 : Int32) (a2 : Int32) (a3 : Int32) (a4 : Int32), zW p l e R s m args below meth c E D tA 6 k0 (s_X7_longestChain_5 E r_X7_longestChain n a0 a1 a2 a3 a4) [(0, zP a0), (1, zI a1), (2, zI a2), (3, zI a3), (4, zI a4)] 5 [] := by
  intro n
  induction n with
  | zero => intro a0 a1 a2 a3 a4; exact z_fail
  | succ n h5 =>
    intro a0 a1 a2 a3 a4
    rw [s_X7_longestChain_5]
    refine z_iload (pc := 5) x 4 dX7_longestChain_5 rfl ?_
    refine z_bipush (pc := 7) x (v := (8 : Int32)) dX7_longestChain_7 rfl ?_
    refine z_icmp_ge (pc := 9) (tgt := 78) x dX7_longestChain_9 rfl (fun _ => ?_) (fun _ => ?_)
    · refine z_iload_n (pc := 78) x 3 dX7_longestChain_78 rfl rfl ?_
      exact z_iret (pc := 79) x hret dX7_longestChain_79
    · refine z_aload_n (pc := 12) x 0 dX7_longestChain_12 rfl rfl ?_
      refine z_get (pc := 13) (fun _ _ h => zAsR_eq h) x in_X7 (ci := 35) rfl (k := 0) (by decide) q594 (fun _ h => h) dX7_longestChain_13 fun v13 => ?_
      refine z_iload_n (pc := 16) x 1 dX7_longestChain_16 rfl rfl ?_
      refine z_aald (pc := 17) x (t := 8) rfl rfl dX7_longestChain_17 fun v17 => ?_
      refine z_iload (pc := 18) x 4 dX7_longestChain_18 rfl ?_
      refine z_zald (pc := 20) x (t := 2) rfl dX7_longestChain_20 fun v20 => ?_
      refine z_if_eq (pc := 21) (tgt := 72) x dX7_longestChain_21 rfl (fun _ => ?_) (fun _ => ?_)
      · exact z_sub [0, 1, 2, 3, 4] rfl (w_X7_longestChain_72 x hl hret hnm htab hr_X7_longestChain hB_X7_longestChain h5 a0 a1 a2 a3 a4)
      · refine z_iload_n (pc := 24) x 2 dX7_longestChain_24 rfl rfl ?_
        refine z_iload (pc := 25) x 4 dX7_longestChain_25 rfl ?_
        refine z_ishr (pc := 27) x dX7_longestChain_27 ?_
        refine z_iconst (pc := 28) x (v := (1 : Int32)) dX7_longestChain_28 rfl ?_
        refine z_iand (pc := 29) x dX7_longestChain_29 ?_
        refine z_if_ne (pc := 30) (tgt := 72) x dX7_longestChain_30 rfl (fun _ => ?_) (fun _ => ?_)
        · refine z_aload_n (pc := 33) x 0 dX7_longestChain_33 rfl rfl ?_
          refine z_iload (pc := 34) x 4 dX7_longestChain_34 rfl ?_
          refine z_iload_n (pc := 36) x 2 dX7_longestChain_36 rfl rfl ?_
          refine z_iconst (pc := 37) x (v := (1 : Int32)) dX7_longestChain_37 rfl ?_
          refine z_iload (pc := 38) x 4 dX7_longestChain_38 rfl ?_
          refine z_ishl (pc := 40) x dX7_longestChain_40 ?_
          refine z_ior (pc := 41) x dX7_longestChain_41 ?_
          refine z_call (pc := 42) (z_canV (pc := 42) (As := [zI a4, zI (a2 ||| ((1 : Int32) <<< (a4 &&& 31)))]) (st := []) x (ci := 35) rfl (fun b => hr_X7_longestChain (some b) a4 (a2 ||| ((1 : Int32) <<< (a4 &&& 31)))) q1201 q1198 (x.2.2.2.2.1 _ q1199) q138 q1200 n_X7_longestChain ⟨by omega, by omega⟩ (Nat.le_of_ble_eq_true rfl) dX7_longestChain_42) (zv_I fun v42 => ?_) (fun q => zx_thr x (fun z hz => (htab z hz).elim) q)
          refine z_istore (pc := 45) (lv' := [(5, zI v42), (0, zP a0), (1, zI a1), (2, zI a2), (3, zI a3), (4, zI a4)]) x dX7_longestChain_45 (Nat.le_of_ble_eq_true rfl) rfl ?_
          refine z_iload_n (pc := 47) x 4 dX7_longestChain_47 rfl rfl ?_
          refine z_iload (pc := 48) x 0 dX7_longestChain_48 rfl ?_
          refine z_aload_n (pc := 50) x 1 dX7_longestChain_50 rfl rfl ?_
          refine z_get (pc := 51) (fun _ _ h => zAsR_eq h) x in_X7 (ci := 35) rfl (k := 1) (by decide) q595 (fun _ h => h) dX7_longestChain_51 fun v51 => ?_
          refine z_iload_n (pc := 54) x 2 dX7_longestChain_54 rfl rfl ?_
          refine z_aald (pc := 55) x (t := 8) rfl rfl dX7_longestChain_55 fun v55 => ?_
          refine z_iload (pc := 56) x 5 dX7_longestChain_56 rfl ?_
          refine z_zald (pc := 58) x (t := 2) rfl dX7_longestChain_58 fun v58 => ?_
          refine z_if_eq (pc := 59) (tgt := 66) x dX7_longestChain_59 rfl (fun _ => ?_) (fun _ => ?_)
          · refine z_iconst (pc := 66) x (v := (0 : Int32)) dX7_longestChain_66 rfl ?_
            exact z_sub [1, 2, 3, 5] rfl (w_X7_longestChain_67 x hl hret hnm htab hr_X7_longestChain hB_X7_longestChain h5 a0 a1 a2 a4 a3 v42 (0 : Int32))
          · refine z_iconst (pc := 62) x (v := (1 : Int32)) dX7_longestChain_62 rfl ?_
            refine z_goto (pc := 63) (tgt := 67) x dX7_longestChain_63 rfl ?_
            exact z_sub [1, 2, 3, 5] rfl (w_X7_longestChain_67 x hl hret hnm htab hr_X7_longestChain hB_X7_longestChain h5 a0 a1 a2 a4 a3 v42 (1 : Int32))
        · exact z_sub [0, 1, 2, 3, 4] rfl (w_X7_longestChain_72 x hl hret hnm htab hr_X7_longestChain hB_X7_longestChain h5 a0 a1 a2 a3 a4)
def s_X7_longestChainb (E : zE) (r_X7_longestChain : Option Nat → Int32 → Int32 → zM) (a0 : Option Nat) (a1 : Int32) (a2 : Int32) : zM := s_X7_longestChain_5 E r_X7_longestChain zN a0 a1 a2 (0 : Int32) (0 : Int32)
theorem m_X7_longestChainb {l : Launch} {E : zE} {D : va_G} {tA : Nat → ClassId} (hl : l.stackTraces = false) {fr_X7_longestChain : Nat} {r_X7_longestChain : Option Nat → Int32 → Int32 → zM} (hr_X7_longestChain : ∀ (a0 : Option Nat) (a1 : Int32) (a2 : Int32), zMet l E D tA yX7_longestChain (ws_ yX7_longestChain cX7_longestChain 6 (Option.some Jvm.ClassFile.FieldType.int)) fr_X7_longestChain (r_X7_longestChain a0 a1 a2) [zP a0, zI a1, zI a2]) (hB_X7_longestChain : 60 ≤ fr_X7_longestChain) (a0 : Option Nat) (a1 : Int32) (a2 : Int32) : zMet l E D tA yX7_longestChain (ws_ yX7_longestChain cX7_longestChain 6 (Option.some Jvm.ClassFile.FieldType.int)) (fr_X7_longestChain + 1) (s_X7_longestChainb E r_X7_longestChain a0 a1 a2) [zP a0, zI a1, zI a2] := by
  refine z_met hl (by decide +kernel) (by rw [zSl_len]; exact (Nat.le_of_ble_eq_true rfl)) fun p e R s m args below meth c k0 x hret hnm htab => ?_
  refine z_lv [(0, zP a0), (1, zI a1), (2, zI a2)] rfl ?_
  unfold s_X7_longestChainb
  refine z_iconst (pc := 0) x (v := (0 : Int32)) dX7_longestChain_0 rfl ?_
  refine z_istore_n (pc := 1) (lv' := [(3, zI (0 : Int32)), (0, zP a0), (1, zI a1), (2, zI a2)]) x dX7_longestChain_1 rfl (Nat.le_of_ble_eq_true rfl) rfl ?_
  refine z_iconst (pc := 2) x (v := (0 : Int32)) dX7_longestChain_2 rfl ?_
  refine z_istore (pc := 3) (lv' := [(4, zI (0 : Int32)), (3, zI (0 : Int32)), (0, zP a0), (1, zI a1), (2, zI a2)]) x dX7_longestChain_3 (Nat.le_of_ble_eq_true rfl) rfl ?_
  exact z_sub [2, 3, 4, 1, 0] rfl (w_X7_longestChain_5 x hl hret hnm htab hr_X7_longestChain hB_X7_longestChain zN a0 a1 a2 (0 : Int32) (0 : Int32))
def s_X7_longestChain (E : zE) : Nat → Option Nat → Int32 → Int32 → zM
  | 0, _, _, _ => zFail
  | n + 1, a0, a1, a2 => s_X7_longestChainb E (s_X7_longestChain E n) a0 a1 a2
theorem m_X7_longestChain {l : Launch} {E : zE} {D : va_G} {tA : Nat → ClassId} (hl : l.stackTraces = false) : ∀ (n : Nat) (a0 : Option Nat) (a1 : Int32) (a2 : Int32), zMet l E D tA yX7_longestChain (ws_ yX7_longestChain cX7_longestChain 6 (Option.some Jvm.ClassFile.FieldType.int)) (60 + 1 * n) (s_X7_longestChain E n a0 a1 a2) [zP a0, zI a1, zI a2]
  | 0, _, _, _ => fun h out h2 hf => nomatch hf
  | n + 1, a0, a1, a2 => by
    rw [Nat.mul_succ, ← Nat.add_assoc]
    exact m_X7_longestChainb hl (m_X7_longestChain hl n) (by omega) a0 a1 a2
/-! X1_layerByChains -/
def s_X1_layerByChains (E : zE) (a0 : Option Nat) (a1 : Int32) : zM := zC (s_X1_requirePredicate E a1) zThr (zKI (fun v1 => zNew 35 2 [.null, .null] (fun v5 => zGetR a0 16 0 (fun v10 => zGetR v10 26 1 (fun v13 => zC (zSp v5 (fun b => s_X7_init E (some b) v13)) zThr (zKV (zC (zRv v5 [(35, fun b => s_X7_longestChain E 20 (some b) v1 ((1 : Int32) <<< (v1 &&& 31)))]) zThr (zKI (fun v23 => zRet (some (.int v23)))))))))))
theorem m_X1_layerByChains {l : Launch} {E : zE} {D : va_G} {tA : Nat → ClassId} (hl : l.stackTraces = false) (a0 : Option Nat) (a1 : Int32) : zMet l E D tA yX1_layerByChains (ws_ yX1_layerByChains cX1_layerByChains 3 (Option.some Jvm.ClassFile.FieldType.int)) 81 (s_X1_layerByChains E a0 a1) [zP a0, zI a1] := by
  refine z_met hl (by decide +kernel) (by rw [zSl_len]; exact (Nat.le_of_ble_eq_true rfl)) fun p e R s m args below meth c k0 x hret hnm htab => ?_
  refine z_lv [(0, zP a0), (1, zI a1)] rfl ?_
  unfold s_X1_layerByChains
  refine z_iload_n (pc := 0) x 1 dX1_layerByChains_0 rfl rfl ?_
  refine z_call (pc := 1) (z_canS (pc := 1) (As := [zI a1]) (st := []) x (m_X1_requirePredicate hl a1) q1519 q1520 q108 q1521 n_X1_requirePredicate ⟨by decide, by decide⟩ (Nat.le_of_ble_eq_true rfl) dX1_layerByChains_1) (zv_I fun v1 => ?_) (fun q => zx_thr x (fun z hz => (htab z hz).elim) q)
  refine z_istore_n (pc := 4) (lv' := [(2, zI v1), (0, zP a0), (1, zI a1)]) x dX1_layerByChains_4 rfl (Nat.le_of_ble_eq_true rfl) rfl ?_
  refine z_new (pc := 5) x in_X7 tyX7 tyX7_ok q2063 q373 q138 (ci := 35) rfl (by decide) (by decide +kernel) dX1_layerByChains_5 fun v5 => ?_
  refine z_dup (pc := 8) x dX1_layerByChains_8 rfl ?_
  refine z_aload_n (pc := 9) x 1 dX1_layerByChains_9 rfl rfl ?_
  refine z_get (pc := 10) (fun _ _ h => zAsR_eq h) x in_X1 (ci := 16) rfl (k := 0) (by decide) q320 (fun _ h => h) dX1_layerByChains_10 fun v10 => ?_
  refine z_getN (pc := 13) (fun _ _ h => zAsR_eq h) x in_X2 (ci := 26) rfl (k := 1) (by decide) q255 (fun _ h => h) dX1_layerByChains_13 fun v13 => ?_
  refine z_call (pc := 16) (z_canI (pc := 16) (ret := none) (As := [zP v13]) (st := [zP v5]) x (fun b => m_X7_init hl (some b) v13) q2064 rfl q375 q138 q376 n_X7_init ⟨by decide, by decide⟩ (Nat.le_of_ble_eq_true rfl) dX1_layerByChains_16) (zv_V ?_) (fun q => zx_thr x (fun z hz => (htab z hz).elim) q)
  refine z_iload_n (pc := 19) x 0 dX1_layerByChains_19 rfl rfl ?_
  refine z_iconst (pc := 20) x (v := (1 : Int32)) dX1_layerByChains_20 rfl ?_
  refine z_iload_n (pc := 21) x 0 dX1_layerByChains_21 rfl rfl ?_
  refine z_ishl (pc := 22) x dX1_layerByChains_22 ?_
  refine z_call (pc := 23) (z_canV (pc := 23) (As := [zI v1, zI ((1 : Int32) <<< (v1 &&& 31))]) (st := []) x (ci := 35) rfl (fun b => m_X7_longestChain hl 20 (some b) v1 ((1 : Int32) <<< (v1 &&& 31))) q2073 q1198 (x.2.2.2.2.1 _ q1199) q138 q1200 n_X7_longestChain ⟨by omega, by omega⟩ (Nat.le_of_ble_eq_true rfl) dX1_layerByChains_23) (zv_I fun v23 => ?_) (fun q => zx_thr x (fun z hz => (htab z hz).elim) q)
  exact z_iret (pc := 26) x hret dX1_layerByChains_26
/-! X0_layerByChains -/
def s_X0_layerByChains_12 (E : zE) (b0 : Option Nat) : zM := zRet (some (.int (1 : Int32)))
theorem w_X0_layerByChains_12 (x : zCx p l R s m args meth c E D tA cX0_layerByChains 4 yX0_layerByChains.cls 82) (hl : l.stackTraces = false) (hret : meth.sig.returnType = (Option.some Jvm.ClassFile.FieldType.int)) (hnm : meth.name = yX0_layerByChains.name) (htab : c.exceptionTable.toList = tableOf [(0, 9, 12, 13)]) (b0 : Option Nat) : zW p l e R s m args below meth c E D tA 4 k0 (s_X0_layerByChains_12 E b0) [] 12 [zP b0] := by
  unfold s_X0_layerByChains_12
  refine z_astore_n (pc := 12) (lv' := [(3, zP b0)]) x dX0_layerByChains_12 rfl (Nat.le_of_ble_eq_true rfl) rfl ?_
  refine z_iconst (pc := 13) x (v := (1 : Int32)) dX0_layerByChains_13 rfl ?_
  exact z_iret (pc := 14) x hret dX0_layerByChains_14
def s_X0_layerByChains (E : zE) (a0 : Option Nat) (a1 : Int32) (a2 : Option Nat) : zM := zC (zRv a0 [(16, fun b => s_X1_layerByChains E (some b) a1)]) (fun q => zCat1 q [(0, s_X0_layerByChains_12 E (some q))]) (zKI (fun v4 => zSaL E 3 a2 (0 : Int32) ((v4).toInt64) (zRet (some (.int (0 : Int32))))))
theorem m_X0_layerByChains {l : Launch} {E : zE} {D : va_G} {tA : Nat → ClassId} (hl : l.stackTraces = false) (a0 : Option Nat) (a1 : Int32) (a2 : Option Nat) : zMet l E D tA yX0_layerByChains (wsW_ yX0_layerByChains cX0_layerByChains 4 (Option.some Jvm.ClassFile.FieldType.int) [(0, 9, 12, 13)]) 82 (s_X0_layerByChains E a0 a1 a2) [zP a0, zI a1, zP a2] := by
  refine z_metW hl (by decide +kernel) (by rw [zSl_len]; exact (Nat.le_of_ble_eq_true rfl)) fun p e R s m args below meth c k0 x hret hnm htab => ?_
  refine z_lv [(0, zP a0), (1, zI a1), (2, zP a2)] rfl ?_
  unfold s_X0_layerByChains
  refine z_aload_n (pc := 0) x 2 dX0_layerByChains_0 rfl rfl ?_
  refine z_iconst (pc := 1) x (v := (0 : Int32)) dX0_layerByChains_1 rfl ?_
  refine z_aload_n (pc := 2) x 0 dX0_layerByChains_2 rfl rfl ?_
  refine z_iload_n (pc := 3) x 1 dX0_layerByChains_3 rfl rfl ?_
  refine z_call (pc := 4) (z_canV (pc := 4) (As := [zI a1]) (st := [zI (0 : Int32), zP a2]) x (ci := 16) rfl (fun b => m_X1_layerByChains hl (some b) a1) q2069 q2070 (x.2.2.2.2.1 _ q2071) q108 q2072 n_X1_layerByChains ⟨by decide, by decide⟩ (Nat.le_of_ble_eq_true rfl) dX0_layerByChains_4) (zv_I fun v4 => ?_) (fun q => zx_cat x [(0, s_X0_layerByChains_12 E (some q), ⟨0, 9, 12, 13⟩)] htab (List.forall_mem_cons.mpr ⟨⟨rfl, (show (13 : Nat) ≠ 0 by decide), q1462, z_sub [] rfl (w_X0_layerByChains_12 x hl hret hnm htab (some q))⟩, (fun _ hj => nomatch hj)⟩))
  refine z_i2l (pc := 7) x dX0_layerByChains_7 ?_
  refine z_last (pc := 8) x (t := 3) rfl dX0_layerByChains_8 ?_
  refine z_goto (pc := 9) (tgt := 15) x dX0_layerByChains_9 rfl ?_
  refine z_iconst (pc := 15) x (v := (0 : Int32)) dX0_layerByChains_15 rfl ?_
  exact z_iret (pc := 16) x hret dX0_layerByChains_16
/-! X1_dependsOn -/
def s_X1_dependsOn (E : zE) (a0 : Option Nat) (a1 : Int32) (a2 : Int32) : zM := zC (s_X1_requirePredicate E a1) zThr (zKI (fun v1 => zC (s_X1_requirePredicate E a2) zThr (zKI (fun v6 => zNew 35 2 [.null, .null] (fun v11 => zGetR a0 16 0 (fun v16 => zGetR v16 26 1 (fun v19 => zC (zSp v11 (fun b => s_X7_init E (some b) v19)) zThr (zKV (zC (zRv v11 [(35, fun b => s_X7_reached E (some b) v1)]) zThr (zKI (fun v26 => if ((v26 >>> (v6 &&& 31)) &&& (1 : Int32)) = (1 : Int32) then (zRetN .boolean (1 : Int32)) else (zRetN .boolean (0 : Int32)))))))))))))
theorem m_X1_dependsOn {l : Launch} {E : zE} {D : va_G} {tA : Nat → ClassId} (hl : l.stackTraces = false) (a0 : Option Nat) (a1 : Int32) (a2 : Int32) : zMet l E D tA yX1_dependsOn (ws_ yX1_dependsOn cX1_dependsOn 5 (Option.some Jvm.ClassFile.FieldType.boolean)) 15 (s_X1_dependsOn E a0 a1 a2) [zP a0, zI a1, zI a2] := by
  refine z_met hl (by decide +kernel) (by rw [zSl_len]; exact (Nat.le_of_ble_eq_true rfl)) fun p e R s m args below meth c k0 x hret hnm htab => ?_
  refine z_lv [(0, zP a0), (1, zI a1), (2, zI a2)] rfl ?_
  unfold s_X1_dependsOn
  refine z_iload_n (pc := 0) x 1 dX1_dependsOn_0 rfl rfl ?_
  refine z_call (pc := 1) (z_canS (pc := 1) (As := [zI a1]) (st := []) x (m_X1_requirePredicate hl a1) q1519 q1520 q108 q1521 n_X1_requirePredicate ⟨by decide, by decide⟩ (Nat.le_of_ble_eq_true rfl) dX1_dependsOn_1) (zv_I fun v1 => ?_) (fun q => zx_thr x (fun z hz => (htab z hz).elim) q)
  refine z_istore_n (pc := 4) (lv' := [(3, zI v1), (0, zP a0), (1, zI a1), (2, zI a2)]) x dX1_dependsOn_4 rfl (Nat.le_of_ble_eq_true rfl) rfl ?_
  refine z_iload_n (pc := 5) x 3 dX1_dependsOn_5 rfl rfl ?_
  refine z_call (pc := 6) (z_canS (pc := 6) (As := [zI a2]) (st := []) x (m_X1_requirePredicate hl a2) q1519 q1520 q108 q1521 n_X1_requirePredicate ⟨by decide, by decide⟩ (Nat.le_of_ble_eq_true rfl) dX1_dependsOn_6) (zv_I fun v6 => ?_) (fun q => zx_thr x (fun z hz => (htab z hz).elim) q)
  refine z_istore (pc := 9) (lv' := [(4, zI v6), (3, zI v1), (0, zP a0), (1, zI a1), (2, zI a2)]) x dX1_dependsOn_9 (Nat.le_of_ble_eq_true rfl) rfl ?_
  refine z_new (pc := 11) x in_X7 tyX7 tyX7_ok q2063 q373 q138 (ci := 35) rfl (by decide) (by decide +kernel) dX1_dependsOn_11 fun v11 => ?_
  refine z_dup (pc := 14) x dX1_dependsOn_14 rfl ?_
  refine z_aload_n (pc := 15) x 2 dX1_dependsOn_15 rfl rfl ?_
  refine z_get (pc := 16) (fun _ _ h => zAsR_eq h) x in_X1 (ci := 16) rfl (k := 0) (by decide) q320 (fun _ h => h) dX1_dependsOn_16 fun v16 => ?_
  refine z_getN (pc := 19) (fun _ _ h => zAsR_eq h) x in_X2 (ci := 26) rfl (k := 1) (by decide) q255 (fun _ h => h) dX1_dependsOn_19 fun v19 => ?_
  refine z_call (pc := 22) (z_canI (pc := 22) (ret := none) (As := [zP v19]) (st := [zP v11]) x (fun b => m_X7_init hl (some b) v19) q2064 rfl q375 q138 q376 n_X7_init ⟨by decide, by decide⟩ (Nat.le_of_ble_eq_true rfl) dX1_dependsOn_22) (zv_V ?_) (fun q => zx_thr x (fun z hz => (htab z hz).elim) q)
  refine z_iload_n (pc := 25) x 1 dX1_dependsOn_25 rfl rfl ?_
  refine z_call (pc := 26) (z_canV (pc := 26) (As := [zI v1]) (st := []) x (ci := 35) rfl (fun b => m_X7_reached hl (some b) v1) q2081 q1989 (x.2.2.2.2.1 _ q1990) q138 q1991 n_X7_reached ⟨by decide, by decide⟩ (Nat.le_of_ble_eq_true rfl) dX1_dependsOn_26) (zv_I fun v26 => ?_) (fun q => zx_thr x (fun z hz => (htab z hz).elim) q)
  refine z_iload (pc := 29) x 0 dX1_dependsOn_29 rfl ?_
  refine z_ishr (pc := 31) x dX1_dependsOn_31 ?_
  refine z_iconst (pc := 32) x (v := (1 : Int32)) dX1_dependsOn_32 rfl ?_
  refine z_iand (pc := 33) x dX1_dependsOn_33 ?_
  refine z_iconst (pc := 34) x (v := (1 : Int32)) dX1_dependsOn_34 rfl ?_
  refine z_icmp_ne (pc := 35) (tgt := 42) x dX1_dependsOn_35 rfl (fun _ => ?_) (fun _ => ?_)
  · refine z_iconst (pc := 38) x (v := (1 : Int32)) dX1_dependsOn_38 rfl ?_
    refine z_goto (pc := 39) (tgt := 43) x dX1_dependsOn_39 rfl ?_
    exact z_zret (pc := 43) x hret dX1_dependsOn_43
  · refine z_iconst (pc := 42) x (v := (0 : Int32)) dX1_dependsOn_42 rfl ?_
    exact z_zret (pc := 43) x hret dX1_dependsOn_43
/-! X0_dependsOn -/
def s_X0_dependsOn_16 (E : zE) (b0 : Option Nat) (b1 : Int32) (b2 : Int64) : zM := zSaL E 3 b0 b1 b2 (zRet (some (.int (0 : Int32))))
theorem w_X0_dependsOn_16 (x : zCx p l R s m args meth c E D tA cX0_dependsOn 5 yX0_dependsOn.cls 16) (hl : l.stackTraces = false) (hret : meth.sig.returnType = (Option.some Jvm.ClassFile.FieldType.int)) (hnm : meth.name = yX0_dependsOn.name) (htab : c.exceptionTable.toList = tableOf [(0, 17, 20, 13)]) (b0 : Option Nat) (b1 : Int32) (b2 : Int64) : zW p l e R s m args below meth c E D tA 5 k0 (s_X0_dependsOn_16 E b0 b1 b2) [] 16 [zL b2, zI b1, zP b0] := by
  unfold s_X0_dependsOn_16
  refine z_last (pc := 16) x (t := 3) rfl dX0_dependsOn_16 ?_
  refine z_goto (pc := 17) (tgt := 24) x dX0_dependsOn_17 rfl ?_
  refine z_iconst (pc := 24) x (v := (0 : Int32)) dX0_dependsOn_24 rfl ?_
  exact z_iret (pc := 25) x hret dX0_dependsOn_25
def s_X0_dependsOn_20 (E : zE) (b0 : Option Nat) : zM := zRet (some (.int (1 : Int32)))
theorem w_X0_dependsOn_20 (x : zCx p l R s m args meth c E D tA cX0_dependsOn 5 yX0_dependsOn.cls 16) (hl : l.stackTraces = false) (hret : meth.sig.returnType = (Option.some Jvm.ClassFile.FieldType.int)) (hnm : meth.name = yX0_dependsOn.name) (htab : c.exceptionTable.toList = tableOf [(0, 17, 20, 13)]) (b0 : Option Nat) : zW p l e R s m args below meth c E D tA 5 k0 (s_X0_dependsOn_20 E b0) [] 20 [zP b0] := by
  unfold s_X0_dependsOn_20
  refine z_astore (pc := 20) (lv' := [(4, zP b0)]) x dX0_dependsOn_20 (Nat.le_of_ble_eq_true rfl) rfl ?_
  refine z_iconst (pc := 22) x (v := (1 : Int32)) dX0_dependsOn_22 rfl ?_
  exact z_iret (pc := 23) x hret dX0_dependsOn_23
def s_X0_dependsOn (E : zE) (a0 : Option Nat) (a1 : Int32) (a2 : Int32) (a3 : Option Nat) : zM := zC (zRv a0 [(16, fun b => s_X1_dependsOn E (some b) a1 a2)]) (fun q => zCat1 q [(0, s_X0_dependsOn_20 E (some q))]) (zKI (fun v5 => if v5 = 0 then (s_X0_dependsOn_16 E a3 (0 : Int32) (0 : Int64)) else (s_X0_dependsOn_16 E a3 (0 : Int32) (1 : Int64))))
theorem m_X0_dependsOn {l : Launch} {E : zE} {D : va_G} {tA : Nat → ClassId} (hl : l.stackTraces = false) (a0 : Option Nat) (a1 : Int32) (a2 : Int32) (a3 : Option Nat) : zMet l E D tA yX0_dependsOn (wsW_ yX0_dependsOn cX0_dependsOn 5 (Option.some Jvm.ClassFile.FieldType.int) [(0, 17, 20, 13)]) 16 (s_X0_dependsOn E a0 a1 a2 a3) [zP a0, zI a1, zI a2, zP a3] := by
  refine z_metW hl (by decide +kernel) (by rw [zSl_len]; exact (Nat.le_of_ble_eq_true rfl)) fun p e R s m args below meth c k0 x hret hnm htab => ?_
  refine z_lv [(0, zP a0), (1, zI a1), (2, zI a2), (3, zP a3)] rfl ?_
  unfold s_X0_dependsOn
  refine z_aload_n (pc := 0) x 3 dX0_dependsOn_0 rfl rfl ?_
  refine z_iconst (pc := 1) x (v := (0 : Int32)) dX0_dependsOn_1 rfl ?_
  refine z_aload_n (pc := 2) x 0 dX0_dependsOn_2 rfl rfl ?_
  refine z_iload_n (pc := 3) x 1 dX0_dependsOn_3 rfl rfl ?_
  refine z_iload_n (pc := 4) x 2 dX0_dependsOn_4 rfl rfl ?_
  refine z_call (pc := 5) (z_canV (pc := 5) (As := [zI a1, zI a2]) (st := [zI (0 : Int32), zP a3]) x (ci := 16) rfl (fun b => m_X1_dependsOn hl (some b) a1 a2) q2077 q2078 (x.2.2.2.2.1 _ q2079) q108 q2080 n_X1_dependsOn ⟨by decide, by decide⟩ (Nat.le_of_ble_eq_true rfl) dX0_dependsOn_5) (zv_I fun v5 => ?_) (fun q => zx_cat x [(0, s_X0_dependsOn_20 E (some q), ⟨0, 17, 20, 13⟩)] htab (List.forall_mem_cons.mpr ⟨⟨rfl, (show (13 : Nat) ≠ 0 by decide), q1462, z_sub [] rfl (w_X0_dependsOn_20 x hl hret hnm htab (some q))⟩, (fun _ hj => nomatch hj)⟩))
  refine z_if_eq (pc := 8) (tgt := 15) x dX0_dependsOn_8 rfl (fun _ => ?_) (fun _ => ?_)
  · refine z_lconst (pc := 15) x (v := (0 : Int64)) dX0_dependsOn_15 rfl ?_
    exact z_sub [] rfl (w_X0_dependsOn_16 x hl hret hnm htab a3 (0 : Int32) (0 : Int64))
  · refine z_lconst (pc := 11) x (v := (1 : Int64)) dX0_dependsOn_11 rfl ?_
    refine z_goto (pc := 12) (tgt := 16) x dX0_dependsOn_12 rfl ?_
    exact z_sub [] rfl (w_X0_dependsOn_16 x hl hret hnm htab a3 (0 : Int32) (1 : Int64))
/-! X1_requireRefusal -/
def s_X1_requireRefusal_12 (E : zE) (a0 : Option Nat) (b0 : Int32) : zM := zC (s_X1_requireElement E b0) zThr (zKV (zGetR a0 16 2 (fun v16 => zRet (some (va_rf v16)))))
theorem w_X1_requireRefusal_12 (x : zCx p l R s m args meth c E D tA cX1_requireRefusal 1 yX1_requireRefusal.cls 10) (hl : l.stackTraces = false) (hret : meth.sig.returnType = (Option.some (Jvm.ClassFile.FieldType.object "BrambleLogic$RefusedException"))) (hnm : meth.name = yX1_requireRefusal.name) (htab : ∀ z ∈ c.exceptionTable.toList, False) (a0 : Option Nat) (b0 : Int32) : zW p l e R s m args below meth c E D tA 1 k0 (s_X1_requireRefusal_12 E a0 b0) [(0, zP a0)] 12 [zI b0] := by
  unfold s_X1_requireRefusal_12
  refine z_call (pc := 12) (z_canS (pc := 12) (As := [zI b0]) (st := []) x (m_X1_requireElement hl b0) q1793 q1656 q108 q1657 n_X1_requireElement ⟨by decide, by decide⟩ (Nat.le_of_ble_eq_true rfl) dX1_requireRefusal_12) (zv_V ?_) (fun q => zx_thr x (fun z hz => (htab z hz).elim) q)
  refine z_aload_n (pc := 15) x 0 dX1_requireRefusal_15 rfl rfl ?_
  refine z_get (pc := 16) (fun _ _ h => zAsR_eq h) x in_X1 (ci := 16) rfl (k := 2) (by decide) q322 (fun _ h => h) dX1_requireRefusal_16 fun v16 => ?_
  exact z_aret (pc := 19) x hret (Or.inl ⟨_, rfl⟩) dX1_requireRefusal_19
def s_X1_requireRefusal (E : zE) (a0 : Option Nat) : zM := zGetR a0 16 2 (fun v1 => if v1 = none then (s_X1_requireRefusal_12 E a0 (0 : Int32)) else (s_X1_requireRefusal_12 E a0 (1 : Int32)))
theorem m_X1_requireRefusal {l : Launch} {E : zE} {D : va_G} {tA : Nat → ClassId} (hl : l.stackTraces = false) (a0 : Option Nat) : zMet l E D tA yX1_requireRefusal (ws_ yX1_requireRefusal cX1_requireRefusal 1 (Option.some (Jvm.ClassFile.FieldType.object "BrambleLogic$RefusedException"))) 10 (s_X1_requireRefusal E a0) [zP a0] := by
  refine z_met hl (by decide +kernel) (by rw [zSl_len]; exact (Nat.le_of_ble_eq_true rfl)) fun p e R s m args below meth c k0 x hret hnm htab => ?_
  refine z_lv [(0, zP a0)] rfl ?_
  unfold s_X1_requireRefusal
  refine z_aload_n (pc := 0) x 0 dX1_requireRefusal_0 rfl rfl ?_
  refine z_get (pc := 1) (fun _ _ h => zAsR_eq h) x in_X1 (ci := 16) rfl (k := 2) (by decide) q322 (fun _ h => h) dX1_requireRefusal_1 fun v1 => ?_
  refine z_ifnull (pc := 4) (tgt := 11) x dX1_requireRefusal_4 rfl (fun _ => ?_) (fun _ => ?_)
  · refine z_iconst (pc := 11) x (v := (0 : Int32)) dX1_requireRefusal_11 rfl ?_
    exact z_sub [0] rfl (w_X1_requireRefusal_12 x hl hret hnm htab a0 (0 : Int32))
  · refine z_iconst (pc := 7) x (v := (1 : Int32)) dX1_requireRefusal_7 rfl ?_
    refine z_goto (pc := 8) (tgt := 12) x dX1_requireRefusal_8 rfl ?_
    exact z_sub [0] rfl (w_X1_requireRefusal_12 x hl hret hnm htab a0 (1 : Int32))
/-! X1_reason -/
def s_X1_reason (E : zE) (a0 : Option Nat) : zM := zC (zRv a0 [(16, fun b => s_X1_requireRefusal E (some b))]) zThr (zKR (fun v1 => zGetI v1 2 0 (fun v4 => zRet (some (.int v4)))))
theorem m_X1_reason {l : Launch} {E : zE} {D : va_G} {tA : Nat → ClassId} (hl : l.stackTraces = false) (a0 : Option Nat) : zMet l E D tA yX1_reason (ws_ yX1_reason cX1_reason 1 (Option.some Jvm.ClassFile.FieldType.int)) 11 (s_X1_reason E a0) [zP a0] := by
  refine z_met hl (by decide +kernel) (by rw [zSl_len]; exact (Nat.le_of_ble_eq_true rfl)) fun p e R s m args below meth c k0 x hret hnm htab => ?_
  refine z_lv [(0, zP a0)] rfl ?_
  unfold s_X1_reason
  refine z_aload_n (pc := 0) x 0 dX1_reason_0 rfl rfl ?_
  refine z_call (pc := 1) (z_canV (pc := 1) (As := []) (st := []) x (ci := 16) rfl (fun b => m_X1_requireRefusal hl (some b)) q2089 q2091 (z_selP x (ci := 16) rfl (by decide) (zNi_inst x q168) q2090 q2091) q108 q2092 n_X1_requireRefusal ⟨by decide, by decide⟩ (Nat.le_of_ble_eq_true rfl) dX1_reason_1) (zv_R fun v1 => ?_) (fun q => zx_thr x (fun z hz => (htab z hz).elim) q)
  refine z_getN (pc := 4) (fun _ _ h => zAsI_eq h) x in_ZX27 (ci := 2) rfl (k := 0) (by decide) q2634 (fun _ h => h) dX1_reason_4 fun v4 => ?_
  exact z_iret (pc := 7) x hret dX1_reason_7
/-! X0_reason -/
def s_X0_reason_11 (E : zE) (b0 : Option Nat) : zM := zRet (some (.int (1 : Int32)))
theorem w_X0_reason_11 (x : zCx p l R s m args meth c E D tA cX0_reason 3 yX0_reason.cls 12) (hl : l.stackTraces = false) (hret : meth.sig.returnType = (Option.some Jvm.ClassFile.FieldType.int)) (hnm : meth.name = yX0_reason.name) (htab : c.exceptionTable.toList = tableOf [(0, 8, 11, 22)]) (b0 : Option Nat) : zW p l e R s m args below meth c E D tA 3 k0 (s_X0_reason_11 E b0) [] 11 [zP b0] := by
  unfold s_X0_reason_11
  refine z_astore_n (pc := 11) (lv' := [(2, zP b0)]) x dX0_reason_11 rfl (Nat.le_of_ble_eq_true rfl) rfl ?_
  refine z_iconst (pc := 12) x (v := (1 : Int32)) dX0_reason_12 rfl ?_
  exact z_iret (pc := 13) x hret dX0_reason_13
def s_X0_reason (E : zE) (a0 : Option Nat) (a1 : Option Nat) : zM := zC (zRv a0 [(16, fun b => s_X1_reason E (some b))]) (fun q => zCat1 q [(6, s_X0_reason_11 E (some q))]) (zKI (fun v3 => zSaL E 3 a1 (0 : Int32) ((v3).toInt64) (zRet (some (.int (0 : Int32))))))
theorem m_X0_reason {l : Launch} {E : zE} {D : va_G} {tA : Nat → ClassId} (hl : l.stackTraces = false) (a0 : Option Nat) (a1 : Option Nat) : zMet l E D tA yX0_reason (wsW_ yX0_reason cX0_reason 3 (Option.some Jvm.ClassFile.FieldType.int) [(0, 8, 11, 22)]) 12 (s_X0_reason E a0 a1) [zP a0, zP a1] := by
  refine z_metW hl (by decide +kernel) (by rw [zSl_len]; exact (Nat.le_of_ble_eq_true rfl)) fun p e R s m args below meth c k0 x hret hnm htab => ?_
  refine z_lv [(0, zP a0), (1, zP a1)] rfl ?_
  unfold s_X0_reason
  refine z_aload_n (pc := 0) x 1 dX0_reason_0 rfl rfl ?_
  refine z_iconst (pc := 1) x (v := (0 : Int32)) dX0_reason_1 rfl ?_
  refine z_aload_n (pc := 2) x 0 dX0_reason_2 rfl rfl ?_
  refine z_call (pc := 3) (z_canV (pc := 3) (As := []) (st := [zI (0 : Int32), zP a1]) x (ci := 16) rfl (fun b => m_X1_reason hl (some b)) q2085 q2086 (x.2.2.2.2.1 _ q2087) q108 q2088 n_X1_reason ⟨by decide, by decide⟩ (Nat.le_of_ble_eq_true rfl) dX0_reason_3) (zv_I fun v3 => ?_) (fun q => zx_cat x [(6, s_X0_reason_11 E (some q), ⟨0, 8, 11, 22⟩)] htab (List.forall_mem_cons.mpr ⟨⟨rfl, (show (22 : Nat) ≠ 0 by decide), q1642, z_sub [] rfl (w_X0_reason_11 x hl hret hnm htab (some q))⟩, (fun _ hj => nomatch hj)⟩))
  refine z_i2l (pc := 6) x dX0_reason_6 ?_
  refine z_last (pc := 7) x (t := 3) rfl dX0_reason_7 ?_
  refine z_goto (pc := 8) (tgt := 14) x dX0_reason_8 rfl ?_
  refine z_iconst (pc := 14) x (v := (0 : Int32)) dX0_reason_14 rfl ?_
  exact z_iret (pc := 15) x hret dX0_reason_15
/-! X1_detail -/
def s_X1_detail (E : zE) (a0 : Option Nat) : zM := zC (zRv a0 [(16, fun b => s_X1_requireRefusal E (some b))]) zThr (zKR (fun v1 => zGetI v1 2 1 (fun v4 => zRet (some (.int v4)))))
theorem m_X1_detail {l : Launch} {E : zE} {D : va_G} {tA : Nat → ClassId} (hl : l.stackTraces = false) (a0 : Option Nat) : zMet l E D tA yX1_detail (ws_ yX1_detail cX1_detail 1 (Option.some Jvm.ClassFile.FieldType.int)) 11 (s_X1_detail E a0) [zP a0] := by
  refine z_met hl (by decide +kernel) (by rw [zSl_len]; exact (Nat.le_of_ble_eq_true rfl)) fun p e R s m args below meth c k0 x hret hnm htab => ?_
  refine z_lv [(0, zP a0)] rfl ?_
  unfold s_X1_detail
  refine z_aload_n (pc := 0) x 0 dX1_detail_0 rfl rfl ?_
  refine z_call (pc := 1) (z_canV (pc := 1) (As := []) (st := []) x (ci := 16) rfl (fun b => m_X1_requireRefusal hl (some b)) q2089 q2091 (z_selP x (ci := 16) rfl (by decide) (zNi_inst x q168) q2090 q2091) q108 q2092 n_X1_requireRefusal ⟨by decide, by decide⟩ (Nat.le_of_ble_eq_true rfl) dX1_detail_1) (zv_R fun v1 => ?_) (fun q => zx_thr x (fun z hz => (htab z hz).elim) q)
  refine z_getN (pc := 4) (fun _ _ h => zAsI_eq h) x in_ZX27 (ci := 2) rfl (k := 1) (by decide) q2636 (fun _ h => h) dX1_detail_4 fun v4 => ?_
  exact z_iret (pc := 7) x hret dX1_detail_7
/-! X0_detail -/
def s_X0_detail_11 (E : zE) (b0 : Option Nat) : zM := zRet (some (.int (1 : Int32)))
theorem w_X0_detail_11 (x : zCx p l R s m args meth c E D tA cX0_detail 3 yX0_detail.cls 12) (hl : l.stackTraces = false) (hret : meth.sig.returnType = (Option.some Jvm.ClassFile.FieldType.int)) (hnm : meth.name = yX0_detail.name) (htab : c.exceptionTable.toList = tableOf [(0, 8, 11, 22)]) (b0 : Option Nat) : zW p l e R s m args below meth c E D tA 3 k0 (s_X0_detail_11 E b0) [] 11 [zP b0] := by
  unfold s_X0_detail_11
  refine z_astore_n (pc := 11) (lv' := [(2, zP b0)]) x dX0_detail_11 rfl (Nat.le_of_ble_eq_true rfl) rfl ?_
  refine z_iconst (pc := 12) x (v := (1 : Int32)) dX0_detail_12 rfl ?_
  exact z_iret (pc := 13) x hret dX0_detail_13
def s_X0_detail (E : zE) (a0 : Option Nat) (a1 : Option Nat) : zM := zC (zRv a0 [(16, fun b => s_X1_detail E (some b))]) (fun q => zCat1 q [(6, s_X0_detail_11 E (some q))]) (zKI (fun v3 => zSaL E 3 a1 (0 : Int32) ((v3).toInt64) (zRet (some (.int (0 : Int32))))))
theorem m_X0_detail {l : Launch} {E : zE} {D : va_G} {tA : Nat → ClassId} (hl : l.stackTraces = false) (a0 : Option Nat) (a1 : Option Nat) : zMet l E D tA yX0_detail (wsW_ yX0_detail cX0_detail 3 (Option.some Jvm.ClassFile.FieldType.int) [(0, 8, 11, 22)]) 12 (s_X0_detail E a0 a1) [zP a0, zP a1] := by
  refine z_metW hl (by decide +kernel) (by rw [zSl_len]; exact (Nat.le_of_ble_eq_true rfl)) fun p e R s m args below meth c k0 x hret hnm htab => ?_
  refine z_lv [(0, zP a0), (1, zP a1)] rfl ?_
  unfold s_X0_detail
  refine z_aload_n (pc := 0) x 1 dX0_detail_0 rfl rfl ?_
  refine z_iconst (pc := 1) x (v := (0 : Int32)) dX0_detail_1 rfl ?_
  refine z_aload_n (pc := 2) x 0 dX0_detail_2 rfl rfl ?_
  refine z_call (pc := 3) (z_canV (pc := 3) (As := []) (st := [zI (0 : Int32), zP a1]) x (ci := 16) rfl (fun b => m_X1_detail hl (some b)) q2096 q2097 (x.2.2.2.2.1 _ q2098) q108 q2099 n_X1_detail ⟨by decide, by decide⟩ (Nat.le_of_ble_eq_true rfl) dX0_detail_3) (zv_I fun v3 => ?_) (fun q => zx_cat x [(6, s_X0_detail_11 E (some q), ⟨0, 8, 11, 22⟩)] htab (List.forall_mem_cons.mpr ⟨⟨rfl, (show (22 : Nat) ≠ 0 by decide), q1642, z_sub [] rfl (w_X0_detail_11 x hl hret hnm htab (some q))⟩, (fun _ hj => nomatch hj)⟩))
  refine z_i2l (pc := 6) x dX0_detail_6 ?_
  refine z_last (pc := 7) x (t := 3) rfl dX0_detail_7 ?_
  refine z_goto (pc := 8) (tgt := 14) x dX0_detail_8 rfl ?_
  refine z_iconst (pc := 14) x (v := (0 : Int32)) dX0_detail_14 rfl ?_
  exact z_iret (pc := 15) x hret dX0_detail_15
/-! X1_requireSome -/
def s_X1_requireSome (E : zE) (a0 : Int32) : zM := if a0 = 0 then (zNew 8 6 [] (fun v4 => zAth v4 zThr)) else (zRet none)
theorem m_X1_requireSome {l : Launch} {E : zE} {D : va_G} {tA : Nat → ClassId} (hl : l.stackTraces = false) (a0 : Int32) : zMet l E D tA yX1_requireSome (ws_ yX1_requireSome cX1_requireSome 1 (Option.none : Option Jvm.ClassFile.FieldType)) 9 (s_X1_requireSome E a0) [zI a0] := by
  refine z_met hl (by decide +kernel) (by rw [zSl_len]; exact (Nat.le_of_ble_eq_true rfl)) fun p e R s m args below meth c k0 x hret hnm htab => ?_
  refine z_lv [(0, zI a0)] rfl ?_
  unfold s_X1_requireSome
  refine z_iload_n (pc := 0) x 0 dX1_requireSome_0 rfl rfl ?_
  refine z_if_ne (pc := 1) (tgt := 12) x dX1_requireSome_1 rfl (fun _ => ?_) (fun _ => ?_)
  · refine z_exc (pc := 4) x ["java/lang/RuntimeException", "java/lang/Exception"] (by decide) (by decide +kernel) (by decide +kernel) q2124 q157 (zx_at0 x zxa_ArithmeticException q2125) (List.all_eq_true.mp (by decide +kernel)) (ci := 8) rfl (by show 2 + 3 < _; omega) (zSum (k := 0) rfl (by show _ + (13 * (2 + 1) + 42) ≤ _; omega)) dX1_requireSome_4 dX1_requireSome_7 dX1_requireSome_8 fun v4 => ?_
    exact z_athrow (pc := 11) x dX1_requireSome_11 (fun q => zx_thr x (fun z hz => (htab z hz).elim) q)
  · exact z_vret (pc := 12) x hret dX1_requireSome_12
end ZGEN3
