/-! ===== walks (by program) ===== -/
set_option maxRecDepth 100000
set_option linter.unusedVariables false
section ZGEN5
variable {p : Program} {l : Launch} {e : Env} {R : Room} {s : State} {m : MethodId} {args : Array Value} {below : List Frame} {meth : Method} {c : Code} {E : zE} {D : va_G} {tA : Nat → ClassId} {k0 : Nat}
/-! J15_signedHashCode -/
def s_J15_signedHashCode_8 (E : zE) : Nat → Int32 → Option Nat → Int32 → Int32 → zM
  | 0, _, _, _, _ => zFail
  | n + 1, a0, a1, a4, a5 => if a4 ≤ a5 then (zRet (some (.int a0))) else (zGaI 1 a1 a5 (fun v22 => (s_J15_signedHashCode_8 E n) (((31 : Int32) * a0) + (v22 &&& (255 : Int32))) a1 a4 (a5 + (1 : Int32))))
theorem w_J15_signedHashCode_8 (x : zCx p l R s m args meth c E D tA cJ15_signedHashCode 6 yJ15_signedHashCode.cls 9) (hl : l.stackTraces = false) (hret : meth.sig.returnType = (Option.some Jvm.ClassFile.FieldType.int)) (hnm : meth.name = yJ15_signedHashCode.name) (htab : ∀ z ∈ c.exceptionTable.toList, False) : ∀ (n : Nat) (a0 : Int32) (a1 : Option Nat) (a4 : Int32) (a5 : Int32), zW p l e R s m args below meth c E D tA 6 k0 (s_J15_signedHashCode_8 E n a0 a1 a4 a5) [(0, zI a0), (1, zP a1), (4, zI a4), (5, zI a5)] 8 [] := by
  intro n
  induction n with
  | zero => intro a0 a1 a4 a5; exact z_fail
  | succ n h8 =>
    intro a0 a1 a4 a5
    rw [s_J15_signedHashCode_8]
    refine z_iload (pc := 8) x 3 dJ15_signedHashCode_8 rfl ?_
    refine z_iload (pc := 10) x 2 dJ15_signedHashCode_10 rfl ?_
    refine z_icmp_ge (pc := 12) (tgt := 35) x dJ15_signedHashCode_12 rfl (fun _ => ?_) (fun _ => ?_)
    · refine z_iload_n (pc := 35) x 0 dJ15_signedHashCode_35 rfl rfl ?_
      exact z_iret (pc := 36) x hret dJ15_signedHashCode_36
    · refine z_bipush (pc := 15) x (v := (31 : Int32)) dJ15_signedHashCode_15 rfl ?_
      refine z_iload_n (pc := 17) x 0 dJ15_signedHashCode_17 rfl rfl ?_
      refine z_imul (pc := 18) x dJ15_signedHashCode_18 ?_
      refine z_aload_n (pc := 19) x 1 dJ15_signedHashCode_19 rfl rfl ?_
      refine z_iload (pc := 20) x 3 dJ15_signedHashCode_20 rfl ?_
      refine z_bald (pc := 22) x (t := 1) rfl dJ15_signedHashCode_22 fun v22 => ?_
      refine z_sipush (pc := 23) x (v := (255 : Int32)) dJ15_signedHashCode_23 rfl ?_
      refine z_iand (pc := 26) x dJ15_signedHashCode_26 ?_
      refine z_iadd (pc := 27) x dJ15_signedHashCode_27 ?_
      refine z_istore_n (pc := 28) (lv' := [(0, zI (((31 : Int32) * a0) + (v22 &&& (255 : Int32)))), (1, zP a1), (4, zI a4), (5, zI a5)]) x dJ15_signedHashCode_28 rfl (Nat.le_of_ble_eq_true rfl) rfl ?_
      refine z_iinc (pc := 29) (lv' := [(5, zI (a5 + (1 : Int32))), (0, zI (((31 : Int32) * a0) + (v22 &&& (255 : Int32)))), (1, zP a1), (4, zI a4)]) x (v2 := (a5 + (1 : Int32))) 3 dJ15_signedHashCode_29 rfl rfl (Nat.le_of_ble_eq_true rfl) rfl ?_
      refine z_goto (pc := 32) (tgt := 8) x dJ15_signedHashCode_32 rfl ?_
      exact z_sub [1, 2, 3, 0] rfl (h8 (((31 : Int32) * a0) + (v22 &&& (255 : Int32))) a1 a4 (a5 + (1 : Int32)))
def s_J15_signedHashCode (E : zE) (a0 : Int32) (a1 : Option Nat) (a2 : Int32) (a3 : Int32) : zM := s_J15_signedHashCode_8 E zN a0 a1 (a2 + a3) a2
theorem m_J15_signedHashCode {l : Launch} {E : zE} {D : va_G} {tA : Nat → ClassId} (hl : l.stackTraces = false) (a0 : Int32) (a1 : Option Nat) (a2 : Int32) (a3 : Int32) : zMet l E D tA yJ15_signedHashCode (ws_ yJ15_signedHashCode cJ15_signedHashCode 6 (Option.some Jvm.ClassFile.FieldType.int)) 9 (s_J15_signedHashCode E a0 a1 a2 a3) [zI a0, zP a1, zI a2, zI a3] := by
  refine z_met hl (by decide +kernel) (by rw [zSl_len]; exact (Nat.le_of_ble_eq_true rfl)) fun p e R s m args below meth c k0 x hret hnm htab => ?_
  refine z_lv [(0, zI a0), (1, zP a1), (2, zI a2), (3, zI a3)] rfl ?_
  unfold s_J15_signedHashCode
  refine z_iload_n (pc := 0) x 2 dJ15_signedHashCode_0 rfl rfl ?_
  refine z_iload_n (pc := 1) x 3 dJ15_signedHashCode_1 rfl rfl ?_
  refine z_iadd (pc := 2) x dJ15_signedHashCode_2 ?_
  refine z_istore (pc := 3) (lv' := [(4, zI (a2 + a3)), (0, zI a0), (1, zP a1), (2, zI a2), (3, zI a3)]) x dJ15_signedHashCode_3 (Nat.le_of_ble_eq_true rfl) rfl ?_
  refine z_iload_n (pc := 5) x 3 dJ15_signedHashCode_5 rfl rfl ?_
  refine z_istore (pc := 6) (lv' := [(5, zI a2), (4, zI (a2 + a3)), (0, zI a0), (1, zP a1), (2, zI a2), (3, zI a3)]) x dJ15_signedHashCode_6 (Nat.le_of_ble_eq_true rfl) rfl ?_
  exact z_sub [2, 3, 1, 0] rfl (w_J15_signedHashCode_8 x hl hret hnm htab zN a0 a1 (a2 + a3) a2)
/-! J15_hashCode_2 -/
def s_J15_hashCode_2_8 (E : zE) : Nat → Int32 → Option Nat → Int32 → Int32 → zM
  | 0, _, _, _, _ => zFail
  | n + 1, a0, a1, a4, a5 => if a4 ≤ a5 then (zRet (some (.int a0))) else (zGaI 1 a1 a5 (fun v22 => (s_J15_hashCode_2_8 E n) (((31 : Int32) * a0) + v22) a1 a4 (a5 + (1 : Int32))))
theorem w_J15_hashCode_2_8 (x : zCx p l R s m args meth c E D tA cJ15_hashCode_2 6 yJ15_hashCode_2.cls 9) (hl : l.stackTraces = false) (hret : meth.sig.returnType = (Option.some Jvm.ClassFile.FieldType.int)) (hnm : meth.name = yJ15_hashCode_2.name) (htab : ∀ z ∈ c.exceptionTable.toList, False) : ∀ (n : Nat) (a0 : Int32) (a1 : Option Nat) (a4 : Int32) (a5 : Int32), zW p l e R s m args below meth c E D tA 6 k0 (s_J15_hashCode_2_8 E n a0 a1 a4 a5) [(0, zI a0), (1, zP a1), (4, zI a4), (5, zI a5)] 8 [] := by
  intro n
  induction n with
  | zero => intro a0 a1 a4 a5; exact z_fail
  | succ n h8 =>
    intro a0 a1 a4 a5
    rw [s_J15_hashCode_2_8]
    refine z_iload (pc := 8) x 3 dJ15_hashCode_2_8 rfl ?_
    refine z_iload (pc := 10) x 2 dJ15_hashCode_2_10 rfl ?_
    refine z_icmp_ge (pc := 12) (tgt := 31) x dJ15_hashCode_2_12 rfl (fun _ => ?_) (fun _ => ?_)
    · refine z_iload_n (pc := 31) x 0 dJ15_hashCode_2_31 rfl rfl ?_
      exact z_iret (pc := 32) x hret dJ15_hashCode_2_32
    · refine z_bipush (pc := 15) x (v := (31 : Int32)) dJ15_hashCode_2_15 rfl ?_
      refine z_iload_n (pc := 17) x 0 dJ15_hashCode_2_17 rfl rfl ?_
      refine z_imul (pc := 18) x dJ15_hashCode_2_18 ?_
      refine z_aload_n (pc := 19) x 1 dJ15_hashCode_2_19 rfl rfl ?_
      refine z_iload (pc := 20) x 3 dJ15_hashCode_2_20 rfl ?_
      refine z_bald (pc := 22) x (t := 1) rfl dJ15_hashCode_2_22 fun v22 => ?_
      refine z_iadd (pc := 23) x dJ15_hashCode_2_23 ?_
      refine z_istore_n (pc := 24) (lv' := [(0, zI (((31 : Int32) * a0) + v22)), (1, zP a1), (4, zI a4), (5, zI a5)]) x dJ15_hashCode_2_24 rfl (Nat.le_of_ble_eq_true rfl) rfl ?_
      refine z_iinc (pc := 25) (lv' := [(5, zI (a5 + (1 : Int32))), (0, zI (((31 : Int32) * a0) + v22)), (1, zP a1), (4, zI a4)]) x (v2 := (a5 + (1 : Int32))) 3 dJ15_hashCode_2_25 rfl rfl (Nat.le_of_ble_eq_true rfl) rfl ?_
      refine z_goto (pc := 28) (tgt := 8) x dJ15_hashCode_2_28 rfl ?_
      exact z_sub [1, 2, 3, 0] rfl (h8 (((31 : Int32) * a0) + v22) a1 a4 (a5 + (1 : Int32)))
def s_J15_hashCode_2 (E : zE) (a0 : Int32) (a1 : Option Nat) (a2 : Int32) (a3 : Int32) : zM := s_J15_hashCode_2_8 E zN a0 a1 (a2 + a3) a2
theorem m_J15_hashCode_2 {l : Launch} {E : zE} {D : va_G} {tA : Nat → ClassId} (hl : l.stackTraces = false) (a0 : Int32) (a1 : Option Nat) (a2 : Int32) (a3 : Int32) : zMet l E D tA yJ15_hashCode_2 (ws_ yJ15_hashCode_2 cJ15_hashCode_2 6 (Option.some Jvm.ClassFile.FieldType.int)) 9 (s_J15_hashCode_2 E a0 a1 a2 a3) [zI a0, zP a1, zI a2, zI a3] := by
  refine z_met hl (by decide +kernel) (by rw [zSl_len]; exact (Nat.le_of_ble_eq_true rfl)) fun p e R s m args below meth c k0 x hret hnm htab => ?_
  refine z_lv [(0, zI a0), (1, zP a1), (2, zI a2), (3, zI a3)] rfl ?_
  unfold s_J15_hashCode_2
  refine z_iload_n (pc := 0) x 2 dJ15_hashCode_2_0 rfl rfl ?_
  refine z_iload_n (pc := 1) x 3 dJ15_hashCode_2_1 rfl rfl ?_
  refine z_iadd (pc := 2) x dJ15_hashCode_2_2 ?_
  refine z_istore (pc := 3) (lv' := [(4, zI (a2 + a3)), (0, zI a0), (1, zP a1), (2, zI a2), (3, zI a3)]) x dJ15_hashCode_2_3 (Nat.le_of_ble_eq_true rfl) rfl ?_
  refine z_iload_n (pc := 5) x 3 dJ15_hashCode_2_5 rfl rfl ?_
  refine z_istore (pc := 6) (lv' := [(5, zI a2), (4, zI (a2 + a3)), (0, zI a0), (1, zP a1), (2, zI a2), (3, zI a3)]) x dJ15_hashCode_2_6 (Nat.le_of_ble_eq_true rfl) rfl ?_
  exact z_sub [2, 3, 1, 0] rfl (w_J15_hashCode_2_8 x hl hret hnm htab zN a0 a1 (a2 + a3) a2)
/-! J15_hashCode_4 -/
def s_J15_hashCode_4_8 (E : zE) : Nat → Int32 → Option Nat → Int32 → Int32 → zM
  | 0, _, _, _, _ => zFail
  | n + 1, a0, a1, a4, a5 => if a4 ≤ a5 then (zRet (some (.int a0))) else (zGaI 0 a1 a5 (fun v22 => (s_J15_hashCode_4_8 E n) (((31 : Int32) * a0) + v22) a1 a4 (a5 + (1 : Int32))))
theorem w_J15_hashCode_4_8 (x : zCx p l R s m args meth c E D tA cJ15_hashCode_4 6 yJ15_hashCode_4.cls 9) (hl : l.stackTraces = false) (hret : meth.sig.returnType = (Option.some Jvm.ClassFile.FieldType.int)) (hnm : meth.name = yJ15_hashCode_4.name) (htab : ∀ z ∈ c.exceptionTable.toList, False) : ∀ (n : Nat) (a0 : Int32) (a1 : Option Nat) (a4 : Int32) (a5 : Int32), zW p l e R s m args below meth c E D tA 6 k0 (s_J15_hashCode_4_8 E n a0 a1 a4 a5) [(0, zI a0), (1, zP a1), (4, zI a4), (5, zI a5)] 8 [] := by
  intro n
  induction n with
  | zero => intro a0 a1 a4 a5; exact z_fail
  | succ n h8 =>
    intro a0 a1 a4 a5
    rw [s_J15_hashCode_4_8]
    refine z_iload (pc := 8) x 3 dJ15_hashCode_4_8 rfl ?_
    refine z_iload (pc := 10) x 2 dJ15_hashCode_4_10 rfl ?_
    refine z_icmp_ge (pc := 12) (tgt := 31) x dJ15_hashCode_4_12 rfl (fun _ => ?_) (fun _ => ?_)
    · refine z_iload_n (pc := 31) x 0 dJ15_hashCode_4_31 rfl rfl ?_
      exact z_iret (pc := 32) x hret dJ15_hashCode_4_32
    · refine z_bipush (pc := 15) x (v := (31 : Int32)) dJ15_hashCode_4_15 rfl ?_
      refine z_iload_n (pc := 17) x 0 dJ15_hashCode_4_17 rfl rfl ?_
      refine z_imul (pc := 18) x dJ15_hashCode_4_18 ?_
      refine z_aload_n (pc := 19) x 1 dJ15_hashCode_4_19 rfl rfl ?_
      refine z_iload (pc := 20) x 3 dJ15_hashCode_4_20 rfl ?_
      refine z_iald (pc := 22) x (t := 0) rfl dJ15_hashCode_4_22 fun v22 => ?_
      refine z_iadd (pc := 23) x dJ15_hashCode_4_23 ?_
      refine z_istore_n (pc := 24) (lv' := [(0, zI (((31 : Int32) * a0) + v22)), (1, zP a1), (4, zI a4), (5, zI a5)]) x dJ15_hashCode_4_24 rfl (Nat.le_of_ble_eq_true rfl) rfl ?_
      refine z_iinc (pc := 25) (lv' := [(5, zI (a5 + (1 : Int32))), (0, zI (((31 : Int32) * a0) + v22)), (1, zP a1), (4, zI a4)]) x (v2 := (a5 + (1 : Int32))) 3 dJ15_hashCode_4_25 rfl rfl (Nat.le_of_ble_eq_true rfl) rfl ?_
      refine z_goto (pc := 28) (tgt := 8) x dJ15_hashCode_4_28 rfl ?_
      exact z_sub [1, 2, 3, 0] rfl (h8 (((31 : Int32) * a0) + v22) a1 a4 (a5 + (1 : Int32)))
def s_J15_hashCode_4 (E : zE) (a0 : Int32) (a1 : Option Nat) (a2 : Int32) (a3 : Int32) : zM := s_J15_hashCode_4_8 E zN a0 a1 (a2 + a3) a2
theorem m_J15_hashCode_4 {l : Launch} {E : zE} {D : va_G} {tA : Nat → ClassId} (hl : l.stackTraces = false) (a0 : Int32) (a1 : Option Nat) (a2 : Int32) (a3 : Int32) : zMet l E D tA yJ15_hashCode_4 (ws_ yJ15_hashCode_4 cJ15_hashCode_4 6 (Option.some Jvm.ClassFile.FieldType.int)) 9 (s_J15_hashCode_4 E a0 a1 a2 a3) [zI a0, zP a1, zI a2, zI a3] := by
  refine z_met hl (by decide +kernel) (by rw [zSl_len]; exact (Nat.le_of_ble_eq_true rfl)) fun p e R s m args below meth c k0 x hret hnm htab => ?_
  refine z_lv [(0, zI a0), (1, zP a1), (2, zI a2), (3, zI a3)] rfl ?_
  unfold s_J15_hashCode_4
  refine z_iload_n (pc := 0) x 2 dJ15_hashCode_4_0 rfl rfl ?_
  refine z_iload_n (pc := 1) x 3 dJ15_hashCode_4_1 rfl rfl ?_
  refine z_iadd (pc := 2) x dJ15_hashCode_4_2 ?_
  refine z_istore (pc := 3) (lv' := [(4, zI (a2 + a3)), (0, zI a0), (1, zP a1), (2, zI a2), (3, zI a3)]) x dJ15_hashCode_4_3 (Nat.le_of_ble_eq_true rfl) rfl ?_
  refine z_iload_n (pc := 5) x 3 dJ15_hashCode_4_5 rfl rfl ?_
  refine z_istore (pc := 6) (lv' := [(5, zI a2), (4, zI (a2 + a3)), (0, zI a0), (1, zP a1), (2, zI a2), (3, zI a3)]) x dJ15_hashCode_4_6 (Nat.le_of_ble_eq_true rfl) rfl ?_
  exact z_sub [2, 3, 1, 0] rfl (w_J15_hashCode_4_8 x hl hret hnm htab zN a0 a1 (a2 + a3) a2)
/-! J15_vectorizedHashCode -/
def s_J15_vectorizedHashCode (E : zE) (a0 : Option Nat) (a1 : Int32) (a2 : Int32) (a3 : Int32) (a4 : Int32) : zM := if a4 = (4 : Int32) then (zCsA 1 a0 (zC (s_J15_signedHashCode E a3 a0 a1 a2) zThr (zKI (fun v51 => zRet (some (.int v51)))))) else (if a4 = (5 : Int32) then zFail else (if a4 = (6 : Int32) then zFail else (if a4 = (7 : Int32) then zFail else (if a4 = (8 : Int32) then (zCsA 1 a0 (zC (s_J15_hashCode_2 E a3 a0 a1 a2) zThr (zKI (fun v97 => zRet (some (.int v97)))))) else (if a4 = (9 : Int32) then zFail else (if a4 = (10 : Int32) then (zCsA 0 a0 (zC (s_J15_hashCode_4 E a3 a0 a1 a2) zThr (zKI (fun v123 => zRet (some (.int v123)))))) else (zFail)))))))
theorem m_J15_vectorizedHashCode {l : Launch} {E : zE} {D : va_G} {tA : Nat → ClassId} (hl : l.stackTraces = false) (a0 : Option Nat) (a1 : Int32) (a2 : Int32) (a3 : Int32) (a4 : Int32) : zMet l E D tA yJ15_vectorizedHashCode (ws_ yJ15_vectorizedHashCode cJ15_vectorizedHashCode 5 (Option.some Jvm.ClassFile.FieldType.int)) 10 (s_J15_vectorizedHashCode E a0 a1 a2 a3 a4) [zP a0, zI a1, zI a2, zI a3, zI a4] := by
  refine z_met hl (by decide +kernel) (by rw [zSl_len]; exact (Nat.le_of_ble_eq_true rfl)) fun p e R s m args below meth c k0 x hret hnm htab => ?_
  refine z_lv [(0, zP a0), (1, zI a1), (2, zI a2), (3, zI a3), (4, zI a4)] rfl ?_
  unfold s_J15_vectorizedHashCode
  refine z_iload (pc := 0) x 4 dJ15_vectorizedHashCode_0 rfl ?_
  refine z_ite (fun e2_1 => ?_) (fun e2_1 => ?_)
  · refine z_tabIn (pc := 2) (tgt := 44) x (42) dJ15_vectorizedHashCode_2 e2_1 (by decide) (by decide) rfl rfl ?_
    refine z_iload_n (pc := 44) x 3 dJ15_vectorizedHashCode_44 rfl rfl ?_
    refine z_aload_n (pc := 45) x 0 dJ15_vectorizedHashCode_45 rfl rfl ?_
    refine z_csA (pc := 46) x (t := 1) rfl (fun _ hc => hc) q2550 dJ15_vectorizedHashCode_46 ?_
    refine z_iload_n (pc := 49) x 1 dJ15_vectorizedHashCode_49 rfl rfl ?_
    refine z_iload_n (pc := 50) x 2 dJ15_vectorizedHashCode_50 rfl rfl ?_
    refine z_call (pc := 51) (z_canS (pc := 51) (As := [zI a3, zP a0, zI a1, zI a2]) (st := []) x (m_J15_signedHashCode hl a3 a0 a1 a2) q2551 q2552 q129 q2553 n_J15_signedHashCode ⟨by decide, by decide⟩ (Nat.le_of_ble_eq_true rfl) dJ15_vectorizedHashCode_51) (zv_I fun v51 => ?_) (fun q => zx_thr x (fun z hz => (htab z hz).elim) q)
    refine z_goto (pc := 54) (tgt := 157) x dJ15_vectorizedHashCode_54 rfl ?_
    exact z_iret (pc := 157) x hret dJ15_vectorizedHashCode_157
  refine z_ite (fun e2_2 => ?_) (fun e2_2 => ?_)
  · refine z_tabIn (pc := 2) (tgt := 57) x (55) dJ15_vectorizedHashCode_2 e2_2 (by decide) (by decide) rfl rfl ?_
    exact z_fail
  refine z_ite (fun e2_3 => ?_) (fun e2_3 => ?_)
  · refine z_tabIn (pc := 2) (tgt := 129) x (127) dJ15_vectorizedHashCode_2 e2_3 (by decide) (by decide) rfl rfl ?_
    exact z_fail
  refine z_ite (fun e2_4 => ?_) (fun e2_4 => ?_)
  · refine z_tabIn (pc := 2) (tgt := 129) x (127) dJ15_vectorizedHashCode_2 e2_4 (by decide) (by decide) rfl rfl ?_
    exact z_fail
  refine z_ite (fun e2_5 => ?_) (fun e2_5 => ?_)
  · refine z_tabIn (pc := 2) (tgt := 90) x (88) dJ15_vectorizedHashCode_2 e2_5 (by decide) (by decide) rfl rfl ?_
    refine z_iload_n (pc := 90) x 3 dJ15_vectorizedHashCode_90 rfl rfl ?_
    refine z_aload_n (pc := 91) x 0 dJ15_vectorizedHashCode_91 rfl rfl ?_
    refine z_csA (pc := 92) x (t := 1) rfl (fun _ hc => hc) q2550 dJ15_vectorizedHashCode_92 ?_
    refine z_iload_n (pc := 95) x 1 dJ15_vectorizedHashCode_95 rfl rfl ?_
    refine z_iload_n (pc := 96) x 2 dJ15_vectorizedHashCode_96 rfl rfl ?_
    refine z_call (pc := 97) (z_canS (pc := 97) (As := [zI a3, zP a0, zI a1, zI a2]) (st := []) x (m_J15_hashCode_2 hl a3 a0 a1 a2) q2574 q2575 q129 q2576 n_J15_hashCode_2 ⟨by decide, by decide⟩ (Nat.le_of_ble_eq_true rfl) dJ15_vectorizedHashCode_97) (zv_I fun v97 => ?_) (fun q => zx_thr x (fun z hz => (htab z hz).elim) q)
    refine z_goto (pc := 100) (tgt := 157) x dJ15_vectorizedHashCode_100 rfl ?_
    exact z_iret (pc := 157) x hret dJ15_vectorizedHashCode_157
  refine z_ite (fun e2_6 => ?_) (fun e2_6 => ?_)
  · refine z_tabIn (pc := 2) (tgt := 103) x (101) dJ15_vectorizedHashCode_2 e2_6 (by decide) (by decide) rfl rfl ?_
    exact z_fail
  refine z_ite (fun e2_7 => ?_) (fun e2_7 => ?_)
  · refine z_tabIn (pc := 2) (tgt := 116) x (114) dJ15_vectorizedHashCode_2 e2_7 (by decide) (by decide) rfl rfl ?_
    refine z_iload_n (pc := 116) x 3 dJ15_vectorizedHashCode_116 rfl rfl ?_
    refine z_aload_n (pc := 117) x 0 dJ15_vectorizedHashCode_117 rfl rfl ?_
    refine z_csA (pc := 118) x (t := 0) rfl (fun _ hc => hc) q2581 dJ15_vectorizedHashCode_118 ?_
    refine z_iload_n (pc := 121) x 1 dJ15_vectorizedHashCode_121 rfl rfl ?_
    refine z_iload_n (pc := 122) x 2 dJ15_vectorizedHashCode_122 rfl rfl ?_
    refine z_call (pc := 123) (z_canS (pc := 123) (As := [zI a3, zP a0, zI a1, zI a2]) (st := []) x (m_J15_hashCode_4 hl a3 a0 a1 a2) q2582 q2583 q129 q2584 n_J15_hashCode_4 ⟨by decide, by decide⟩ (Nat.le_of_ble_eq_true rfl) dJ15_vectorizedHashCode_123) (zv_I fun v123 => ?_) (fun q => zx_thr x (fun z hz => (htab z hz).elim) q)
    refine z_goto (pc := 126) (tgt := 157) x dJ15_vectorizedHashCode_126 rfl ?_
    exact z_iret (pc := 157) x hret dJ15_vectorizedHashCode_157
  refine z_tabOut (pc := 2) (tgt := 129) x dJ15_vectorizedHashCode_2 (by have f1 := lv_neT (a := 4) e2_1 rfl; have f2 := lv_neT (a := 5) e2_2 rfl; have f3 := lv_neT (a := 6) e2_3 rfl; have f4 := lv_neT (a := 7) e2_4 rfl; have f5 := lv_neT (a := 8) e2_5 rfl; have f6 := lv_neT (a := 9) e2_6 rfl; have f7 := lv_neT (a := 10) e2_7 rfl; omega) rfl ?_
  exact z_fail
/-! J18_hashCode -/
def s_J18_hashCode (E : zE) (a0 : Option Nat) : zM := zLen a0 (fun v1 => if v1 = (0 : Int32) then (zRet (some (.int (0 : Int32)))) else (if v1 = (1 : Int32) then (zGaI 1 a0 (0 : Int32) (fun v34 => zRet (some (.int (v34 &&& (255 : Int32)))))) else (zLen a0 (fun v45 => zC (s_J15_vectorizedHashCode E a0 (0 : Int32) v45 (0 : Int32) (4 : Int32)) zThr (zKI (fun v48 => zRet (some (.int v48))))))))
theorem m_J18_hashCode {l : Launch} {E : zE} {D : va_G} {tA : Nat → ClassId} (hl : l.stackTraces = false) (a0 : Option Nat) : zMet l E D tA yJ18_hashCode (ws_ yJ18_hashCode cJ18_hashCode 1 (Option.some Jvm.ClassFile.FieldType.int)) 11 (s_J18_hashCode E a0) [zP a0] := by
  refine z_met hl (by decide +kernel) (by rw [zSl_len]; exact (Nat.le_of_ble_eq_true rfl)) fun p e R s m args below meth c k0 x hret hnm htab => ?_
  refine z_lv [(0, zP a0)] rfl ?_
  unfold s_J18_hashCode
  refine z_aload_n (pc := 0) x 0 dJ18_hashCode_0 rfl rfl ?_
  refine z_len (pc := 1) x dJ18_hashCode_1 fun v1 => ?_
  refine z_ite (fun e2_1 => ?_) (fun e2_1 => ?_)
  · refine z_lookup (pc := 2) (tgt := 28) x (26) dJ18_hashCode_2 (by decide) (by rw [e2_1]; rfl) rfl ?_
    refine z_iconst (pc := 28) x (v := (0 : Int32)) dJ18_hashCode_28 rfl ?_
    refine z_goto (pc := 29) (tgt := 51) x dJ18_hashCode_29 rfl ?_
    exact z_iret (pc := 51) x hret dJ18_hashCode_51
  refine z_ite (fun e2_2 => ?_) (fun e2_2 => ?_)
  · refine z_lookup (pc := 2) (tgt := 32) x (30) dJ18_hashCode_2 (by decide) (by rw [e2_2]; rfl) rfl ?_
    refine z_aload_n (pc := 32) x 0 dJ18_hashCode_32 rfl rfl ?_
    refine z_iconst (pc := 33) x (v := (0 : Int32)) dJ18_hashCode_33 rfl ?_
    refine z_bald (pc := 34) x (t := 1) rfl dJ18_hashCode_34 fun v34 => ?_
    refine z_sipush (pc := 35) x (v := (255 : Int32)) dJ18_hashCode_35 rfl ?_
    refine z_iand (pc := 38) x dJ18_hashCode_38 ?_
    refine z_goto (pc := 39) (tgt := 51) x dJ18_hashCode_39 rfl ?_
    exact z_iret (pc := 51) x hret dJ18_hashCode_51
  refine z_lookup (pc := 2) (tgt := 42) x (40) dJ18_hashCode_2 (by decide) (by show Op.lookupswitch.offset [(0, 26), (1, 30)] _ _ = _; rw [lv_osw (a := 0) e2_1 rfl, lv_osw (a := 1) e2_2 rfl]; rfl) rfl ?_
  refine z_aload_n (pc := 42) x 0 dJ18_hashCode_42 rfl rfl ?_
  refine z_iconst (pc := 43) x (v := (0 : Int32)) dJ18_hashCode_43 rfl ?_
  refine z_aload_n (pc := 44) x 0 dJ18_hashCode_44 rfl rfl ?_
  refine z_len (pc := 45) x dJ18_hashCode_45 fun v45 => ?_
  refine z_iconst (pc := 46) x (v := (0 : Int32)) dJ18_hashCode_46 rfl ?_
  refine z_iconst (pc := 47) x (v := (4 : Int32)) dJ18_hashCode_47 rfl ?_
  refine z_call (pc := 48) (z_canS (pc := 48) (As := [zP a0, zI (0 : Int32), zI v45, zI (0 : Int32), zI (4 : Int32)]) (st := []) x (m_J15_vectorizedHashCode hl a0 (0 : Int32) v45 (0 : Int32) (4 : Int32)) q2547 q2548 q129 q2549 n_J15_vectorizedHashCode ⟨by decide, by decide⟩ (Nat.le_of_ble_eq_true rfl) dJ18_hashCode_48) (zv_I fun v48 => ?_) (fun q => zx_thr x (fun z hz => (htab z hz).elim) q)
  exact z_iret (pc := 51) x hret dJ18_hashCode_51
/-! J7_hashCode -/
def s_J7_hashCode (E : zE) (a0 : Option Nat) : zM := zLen a0 (fun v1 => if v1 = (0 : Int32) then (zRet (some (.int (0 : Int32)))) else (if v1 = (2 : Int32) then (zC (s_J7_getChar E a0 (0 : Int32)) zThr (zKI (fun v34 => zRet (some (.int v34))))) else (zLen a0 (fun v43 => zC (s_J15_vectorizedHashCode E a0 (0 : Int32) (v43 >>> ((1 : Int32) &&& 31)) (0 : Int32) (5 : Int32)) zThr (zKI (fun v48 => zRet (some (.int v48))))))))
theorem m_J7_hashCode {l : Launch} {E : zE} {D : va_G} {tA : Nat → ClassId} (hl : l.stackTraces = false) (a0 : Option Nat) : zMet l E D tA yJ7_hashCode (ws_ yJ7_hashCode cJ7_hashCode 1 (Option.some Jvm.ClassFile.FieldType.int)) 11 (s_J7_hashCode E a0) [zP a0] := by
  refine z_met hl (by decide +kernel) (by rw [zSl_len]; exact (Nat.le_of_ble_eq_true rfl)) fun p e R s m args below meth c k0 x hret hnm htab => ?_
  refine z_lv [(0, zP a0)] rfl ?_
  unfold s_J7_hashCode
  refine z_aload_n (pc := 0) x 0 dJ7_hashCode_0 rfl rfl ?_
  refine z_len (pc := 1) x dJ7_hashCode_1 fun v1 => ?_
  refine z_ite (fun e2_1 => ?_) (fun e2_1 => ?_)
  · refine z_lookup (pc := 2) (tgt := 28) x (26) dJ7_hashCode_2 (by decide) (by rw [e2_1]; rfl) rfl ?_
    refine z_iconst (pc := 28) x (v := (0 : Int32)) dJ7_hashCode_28 rfl ?_
    refine z_goto (pc := 29) (tgt := 51) x dJ7_hashCode_29 rfl ?_
    exact z_iret (pc := 51) x hret dJ7_hashCode_51
  refine z_ite (fun e2_2 => ?_) (fun e2_2 => ?_)
  · refine z_lookup (pc := 2) (tgt := 32) x (30) dJ7_hashCode_2 (by decide) (by rw [e2_2]; rfl) rfl ?_
    refine z_aload_n (pc := 32) x 0 dJ7_hashCode_32 rfl rfl ?_
    refine z_iconst (pc := 33) x (v := (0 : Int32)) dJ7_hashCode_33 rfl ?_
    refine z_call (pc := 34) (z_canS (pc := 34) (As := [zP a0, zI (0 : Int32)]) (st := []) x (m_J7_getChar hl a0 (0 : Int32)) q1429 q1430 q120 q1431 n_J7_getChar ⟨by decide, by decide⟩ (Nat.le_of_ble_eq_true rfl) dJ7_hashCode_34) (zv_I fun v34 => ?_) (fun q => zx_thr x (fun z hz => (htab z hz).elim) q)
    refine z_goto (pc := 37) (tgt := 51) x dJ7_hashCode_37 rfl ?_
    exact z_iret (pc := 51) x hret dJ7_hashCode_51
  refine z_lookup (pc := 2) (tgt := 40) x (38) dJ7_hashCode_2 (by decide) (by show Op.lookupswitch.offset [(0, 26), (2, 30)] _ _ = _; rw [lv_osw (a := 0) e2_1 rfl, lv_osw (a := 2) e2_2 rfl]; rfl) rfl ?_
  refine z_aload_n (pc := 40) x 0 dJ7_hashCode_40 rfl rfl ?_
  refine z_iconst (pc := 41) x (v := (0 : Int32)) dJ7_hashCode_41 rfl ?_
  refine z_aload_n (pc := 42) x 0 dJ7_hashCode_42 rfl rfl ?_
  refine z_len (pc := 43) x dJ7_hashCode_43 fun v43 => ?_
  refine z_iconst (pc := 44) x (v := (1 : Int32)) dJ7_hashCode_44 rfl ?_
  refine z_ishr (pc := 45) x dJ7_hashCode_45 ?_
  refine z_iconst (pc := 46) x (v := (0 : Int32)) dJ7_hashCode_46 rfl ?_
  refine z_iconst (pc := 47) x (v := (5 : Int32)) dJ7_hashCode_47 rfl ?_
  refine z_call (pc := 48) (z_canS (pc := 48) (As := [zP a0, zI (0 : Int32), zI (v43 >>> ((1 : Int32) &&& 31)), zI (0 : Int32), zI (5 : Int32)]) (st := []) x (m_J15_vectorizedHashCode hl a0 (0 : Int32) (v43 >>> ((1 : Int32) &&& 31)) (0 : Int32) (5 : Int32)) q2596 q2548 q129 q2549 n_J15_vectorizedHashCode ⟨by decide, by decide⟩ (Nat.le_of_ble_eq_true rfl) dJ7_hashCode_48) (zv_I fun v48 => ?_) (fun q => zx_thr x (fun z hz => (htab z hz).elim) q)
  exact z_iret (pc := 51) x hret dJ7_hashCode_51
/-! J6_hashCode -/
def s_J6_hashCode_40 (E : zE) (a0 : Option Nat) (b0 : Int32) : zM := if b0 = 0 then (zSetN E .boolean a0 15 3 (1 : Int32) (zRet (some (.int b0)))) else (zSet E a0 15 2 (zVal (zI b0)) (zRet (some (.int b0))))
theorem w_J6_hashCode_40 (x : zCx p l R s m args meth c E D tA cJ6_hashCode 2 yJ6_hashCode.cls 12) (hl : l.stackTraces = false) (hret : meth.sig.returnType = (Option.some Jvm.ClassFile.FieldType.int)) (hnm : meth.name = yJ6_hashCode.name) (htab : ∀ z ∈ c.exceptionTable.toList, False) (a0 : Option Nat) (b0 : Int32) : zW p l e R s m args below meth c E D tA 2 k0 (s_J6_hashCode_40 E a0 b0) [(0, zP a0)] 40 [zI b0] := by
  unfold s_J6_hashCode_40
  refine z_istore_n (pc := 40) (lv' := [(1, zI b0), (0, zP a0)]) x dJ6_hashCode_40 rfl (Nat.le_of_ble_eq_true rfl) rfl ?_
  refine z_iload_n (pc := 41) x 0 dJ6_hashCode_41 rfl rfl ?_
  refine z_if_ne (pc := 42) (tgt := 53) x dJ6_hashCode_42 rfl (fun _ => ?_) (fun _ => ?_)
  · refine z_aload_n (pc := 45) x 1 dJ6_hashCode_45 rfl rfl ?_
    refine z_iconst (pc := 46) x (v := (1 : Int32)) dJ6_hashCode_46 rfl ?_
    refine z_set_small fun hn hf => ?_
    refine z_set (pc := 47) (v := zI (1 : Int32)) x in_J6 tyJ6 tyJ6_ok nmJ6 (ci := 15) rfl (k := 3) (by decide) q1439 (fun _ h => h) rfl hn hf dJ6_hashCode_47 ?_
    refine z_goto (pc := 50) (tgt := 58) x dJ6_hashCode_50 rfl ?_
    refine z_iload_n (pc := 58) x 0 dJ6_hashCode_58 rfl rfl ?_
    exact z_iret (pc := 59) x hret dJ6_hashCode_59
  · refine z_aload_n (pc := 53) x 1 dJ6_hashCode_53 rfl rfl ?_
    refine z_iload_n (pc := 54) x 0 dJ6_hashCode_54 rfl rfl ?_
    refine z_set (pc := 55) (v := zI b0) x in_J6 tyJ6 tyJ6_ok nmJ6 (ci := 15) rfl (k := 2) (by decide) q1438 (fun _ h => h) rfl rfl rfl dJ6_hashCode_55 ?_
    refine z_iload_n (pc := 58) x 0 dJ6_hashCode_58 rfl rfl ?_
    exact z_iret (pc := 59) x hret dJ6_hashCode_59
def s_J6_hashCode (E : zE) (a0 : Option Nat) : zM := zGetI a0 15 2 (fun v1 => if v1 = 0 then (zGetI a0 15 3 (fun v10 => if v10 = 0 then (zC (zRv a0 [(15, fun b => s_J6_isLatin1 E (some b))]) zThr (zKI (fun v17 => if v17 = 0 then (zGetR a0 15 0 (fun v34 => zC (s_J7_hashCode E v34) zThr (zKI (fun v37 => s_J6_hashCode_40 E a0 v37)))) else (zGetR a0 15 0 (fun v24 => zC (s_J18_hashCode E v24) zThr (zKI (fun v27 => s_J6_hashCode_40 E a0 v27))))))) else (zRet (some (.int v1))))) else (zRet (some (.int v1))))
theorem m_J6_hashCode {l : Launch} {E : zE} {D : va_G} {tA : Nat → ClassId} (hl : l.stackTraces = false) (a0 : Option Nat) : zMet l E D tA yJ6_hashCode (ws_ yJ6_hashCode cJ6_hashCode 2 (Option.some Jvm.ClassFile.FieldType.int)) 12 (s_J6_hashCode E a0) [zP a0] := by
  refine z_met hl (by decide +kernel) (by rw [zSl_len]; exact (Nat.le_of_ble_eq_true rfl)) fun p e R s m args below meth c k0 x hret hnm htab => ?_
  refine z_lv [(0, zP a0)] rfl ?_
  unfold s_J6_hashCode
  refine z_aload_n (pc := 0) x 0 dJ6_hashCode_0 rfl rfl ?_
  refine z_get (pc := 1) (fun _ _ h => zAsI_eq h) x in_J6 (ci := 15) rfl (k := 2) (by decide) q1438 (fun _ h => h) dJ6_hashCode_1 fun v1 => ?_
  refine z_istore_n (pc := 4) (lv' := [(1, zI v1), (0, zP a0)]) x dJ6_hashCode_4 rfl (Nat.le_of_ble_eq_true rfl) rfl ?_
  refine z_iload_n (pc := 5) x 0 dJ6_hashCode_5 rfl rfl ?_
  refine z_if_ne (pc := 6) (tgt := 58) x dJ6_hashCode_6 rfl (fun _ => ?_) (fun _ => ?_)
  · refine z_aload_n (pc := 9) x 1 dJ6_hashCode_9 rfl rfl ?_
    refine z_get (pc := 10) (fun _ _ h => zAsI_eq h) x in_J6 (ci := 15) rfl (k := 3) (by decide) q1439 (fun _ h => h) dJ6_hashCode_10 fun v10 => ?_
    refine z_if_ne (pc := 13) (tgt := 58) x dJ6_hashCode_13 rfl (fun _ => ?_) (fun _ => ?_)
    · refine z_aload_n (pc := 16) x 1 dJ6_hashCode_16 rfl rfl ?_
      refine z_call (pc := 17) (z_canV (pc := 17) (As := []) (st := []) x (ci := 15) rfl (fun b => m_J6_isLatin1 hl (some b)) q2250 q2251 (x.2.2.2.2.1 _ q2252) q119 q2253 n_J6_isLatin1 ⟨by decide, by decide⟩ (Nat.le_of_ble_eq_true rfl) dJ6_hashCode_17) (zv_I fun v17 => ?_) (fun q => zx_thr x (fun z hz => (htab z hz).elim) q)
      refine z_if_eq (pc := 20) (tgt := 33) x dJ6_hashCode_20 rfl (fun _ => ?_) (fun _ => ?_)
      · refine z_aload_n (pc := 33) x 1 dJ6_hashCode_33 rfl rfl ?_
        refine z_get (pc := 34) (fun _ _ h => zAsR_eq h) x in_J6 (ci := 15) rfl (k := 0) (by decide) q1436 (fun _ h => h) dJ6_hashCode_34 fun v34 => ?_
        refine z_call (pc := 37) (z_canS (pc := 37) (As := [zP v34]) (st := []) x (m_J7_hashCode hl v34) q2593 q2594 q120 q2595 n_J7_hashCode ⟨by decide, by decide⟩ (Nat.le_of_ble_eq_true rfl) dJ6_hashCode_37) (zv_I fun v37 => ?_) (fun q => zx_thr x (fun z hz => (htab z hz).elim) q)
        exact z_sub [1] rfl (w_J6_hashCode_40 x hl hret hnm htab a0 v37)
      · refine z_aload_n (pc := 23) x 1 dJ6_hashCode_23 rfl rfl ?_
        refine z_get (pc := 24) (fun _ _ h => zAsR_eq h) x in_J6 (ci := 15) rfl (k := 0) (by decide) q1436 (fun _ h => h) dJ6_hashCode_24 fun v24 => ?_
        refine z_call (pc := 27) (z_canS (pc := 27) (As := [zP v24]) (st := []) x (m_J18_hashCode hl v24) q2544 q2545 q133 q2546 n_J18_hashCode ⟨by decide, by decide⟩ (Nat.le_of_ble_eq_true rfl) dJ6_hashCode_27) (zv_I fun v27 => ?_) (fun q => zx_thr x (fun z hz => (htab z hz).elim) q)
        refine z_goto (pc := 30) (tgt := 40) x dJ6_hashCode_30 rfl ?_
        exact z_sub [1] rfl (w_J6_hashCode_40 x hl hret hnm htab a0 v27)
    · refine z_iload_n (pc := 58) x 0 dJ6_hashCode_58 rfl rfl ?_
      exact z_iret (pc := 59) x hret dJ6_hashCode_59
  · refine z_iload_n (pc := 58) x 0 dJ6_hashCode_58 rfl rfl ?_
    exact z_iret (pc := 59) x hret dJ6_hashCode_59
/-! J18_equals -/
def s_J18_equals_9 (E : zE) : Nat → Option Nat → Option Nat → Int32 → zM
  | 0, _, _, _ => zFail
  | n + 1, a0, a1, a2 => zLen a0 (fun v11 => if v11 ≤ a2 then (zRetN .boolean (1 : Int32)) else (zGaI 1 a0 a2 (fun v17 => zGaI 1 a1 a2 (fun v20 => if v17 = v20 then ((s_J18_equals_9 E n) a0 a1 (a2 + (1 : Int32))) else (zRetN .boolean (0 : Int32))))))
theorem w_J18_equals_9 (x : zCx p l R s m args meth c E D tA cJ18_equals 3 yJ18_equals.cls 9) (hl : l.stackTraces = false) (hret : meth.sig.returnType = (Option.some Jvm.ClassFile.FieldType.boolean)) (hnm : meth.name = yJ18_equals.name) (htab : ∀ z ∈ c.exceptionTable.toList, False) : ∀ (n : Nat) (a0 : Option Nat) (a1 : Option Nat) (a2 : Int32), zW p l e R s m args below meth c E D tA 3 k0 (s_J18_equals_9 E n a0 a1 a2) [(0, zP a0), (1, zP a1), (2, zI a2)] 9 [] := by
  intro n
  induction n with
  | zero => intro a0 a1 a2; exact z_fail
  | succ n h9 =>
    intro a0 a1 a2
    rw [s_J18_equals_9]
    refine z_iload_n (pc := 9) x 2 dJ18_equals_9 rfl rfl ?_
    refine z_aload_n (pc := 10) x 0 dJ18_equals_10 rfl rfl ?_
    refine z_len (pc := 11) x dJ18_equals_11 fun v11 => ?_
    refine z_icmp_ge (pc := 12) (tgt := 32) x dJ18_equals_12 rfl (fun _ => ?_) (fun _ => ?_)
    · refine z_iconst (pc := 32) x (v := (1 : Int32)) dJ18_equals_32 rfl ?_
      exact z_zret (pc := 33) x hret dJ18_equals_33
    · refine z_aload_n (pc := 15) x 0 dJ18_equals_15 rfl rfl ?_
      refine z_iload_n (pc := 16) x 2 dJ18_equals_16 rfl rfl ?_
      refine z_bald (pc := 17) x (t := 1) rfl dJ18_equals_17 fun v17 => ?_
      refine z_aload_n (pc := 18) x 1 dJ18_equals_18 rfl rfl ?_
      refine z_iload_n (pc := 19) x 2 dJ18_equals_19 rfl rfl ?_
      refine z_bald (pc := 20) x (t := 1) rfl dJ18_equals_20 fun v20 => ?_
      refine z_icmp_eq (pc := 21) (tgt := 26) x dJ18_equals_21 rfl (fun _ => ?_) (fun _ => ?_)
      · refine z_iinc (pc := 26) (lv' := [(2, zI (a2 + (1 : Int32))), (0, zP a0), (1, zP a1)]) x (v2 := (a2 + (1 : Int32))) 2 dJ18_equals_26 rfl rfl (Nat.le_of_ble_eq_true rfl) rfl ?_
        refine z_goto (pc := 29) (tgt := 9) x dJ18_equals_29 rfl ?_
        exact z_sub [1, 2, 0] rfl (h9 a0 a1 (a2 + (1 : Int32)))
      · refine z_iconst (pc := 24) x (v := (0 : Int32)) dJ18_equals_24 rfl ?_
        exact z_zret (pc := 25) x hret dJ18_equals_25
def s_J18_equals (E : zE) (a0 : Option Nat) (a1 : Option Nat) : zM := zLen a0 (fun v1 => zLen a1 (fun v3 => if v1 = v3 then (s_J18_equals_9 E zN a0 a1 (0 : Int32)) else (zRetN .boolean (0 : Int32))))
theorem m_J18_equals {l : Launch} {E : zE} {D : va_G} {tA : Nat → ClassId} (hl : l.stackTraces = false) (a0 : Option Nat) (a1 : Option Nat) : zMet l E D tA yJ18_equals (ws_ yJ18_equals cJ18_equals 3 (Option.some Jvm.ClassFile.FieldType.boolean)) 9 (s_J18_equals E a0 a1) [zP a0, zP a1] := by
  refine z_met hl (by decide +kernel) (by rw [zSl_len]; exact (Nat.le_of_ble_eq_true rfl)) fun p e R s m args below meth c k0 x hret hnm htab => ?_
  refine z_lv [(0, zP a0), (1, zP a1)] rfl ?_
  unfold s_J18_equals
  refine z_aload_n (pc := 0) x 0 dJ18_equals_0 rfl rfl ?_
  refine z_len (pc := 1) x dJ18_equals_1 fun v1 => ?_
  refine z_aload_n (pc := 2) x 1 dJ18_equals_2 rfl rfl ?_
  refine z_len (pc := 3) x dJ18_equals_3 fun v3 => ?_
  refine z_icmp_ne (pc := 4) (tgt := 34) x dJ18_equals_4 rfl (fun _ => ?_) (fun _ => ?_)
  · refine z_iconst (pc := 7) x (v := (0 : Int32)) dJ18_equals_7 rfl ?_
    refine z_istore_n (pc := 8) (lv' := [(2, zI (0 : Int32)), (0, zP a0), (1, zP a1)]) x dJ18_equals_8 rfl (Nat.le_of_ble_eq_true rfl) rfl ?_
    exact z_sub [1, 2, 0] rfl (w_J18_equals_9 x hl hret hnm htab zN a0 a1 (0 : Int32))
  · refine z_iconst (pc := 34) x (v := (0 : Int32)) dJ18_equals_34 rfl ?_
    exact z_zret (pc := 35) x hret dJ18_equals_35
/-! J6_equals -/
def s_J6_equals_36 (E : zE) (a0 : Option Nat) (a2 : Option Nat) : zM := zGetR a0 15 0 (fun v37 => zGetR a2 15 0 (fun v41 => zC (s_J18_equals E v37 v41) zThr (zKI (fun v44 => if v44 = 0 then (zRetN .boolean (0 : Int32)) else (zRetN .boolean (1 : Int32))))))
theorem w_J6_equals_36 (x : zCx p l R s m args meth c E D tA cJ6_equals 3 yJ6_equals.cls 10) (hl : l.stackTraces = false) (hret : meth.sig.returnType = (Option.some Jvm.ClassFile.FieldType.boolean)) (hnm : meth.name = yJ6_equals.name) (htab : ∀ z ∈ c.exceptionTable.toList, False) (a0 : Option Nat) (a2 : Option Nat) : zW p l e R s m args below meth c E D tA 3 k0 (s_J6_equals_36 E a0 a2) [(0, zP a0), (2, zP a2)] 36 [] := by
  unfold s_J6_equals_36
  refine z_aload_n (pc := 36) x 0 dJ6_equals_36 rfl rfl ?_
  refine z_get (pc := 37) (fun _ _ h => zAsR_eq h) x in_J6 (ci := 15) rfl (k := 0) (by decide) q1436 (fun _ h => h) dJ6_equals_37 fun v37 => ?_
  refine z_aload_n (pc := 40) x 1 dJ6_equals_40 rfl rfl ?_
  refine z_get (pc := 41) (fun _ _ h => zAsR_eq h) x in_J6 (ci := 15) rfl (k := 0) (by decide) q1436 (fun _ h => h) dJ6_equals_41 fun v41 => ?_
  refine z_call (pc := 44) (z_canS (pc := 44) (As := [zP v37, zP v41]) (st := []) x (m_J18_equals hl v37 v41) q2603 q2604 q133 q2605 n_J18_equals ⟨by decide, by decide⟩ (Nat.le_of_ble_eq_true rfl) dJ6_equals_44) (zv_I fun v44 => ?_) (fun q => zx_thr x (fun z hz => (htab z hz).elim) q)
  refine z_if_eq (pc := 47) (tgt := 54) x dJ6_equals_47 rfl (fun _ => ?_) (fun _ => ?_)
  · refine z_iconst (pc := 54) x (v := (0 : Int32)) dJ6_equals_54 rfl ?_
    exact z_zret (pc := 55) x hret dJ6_equals_55
  · refine z_iconst (pc := 50) x (v := (1 : Int32)) dJ6_equals_50 rfl ?_
    refine z_goto (pc := 51) (tgt := 55) x dJ6_equals_51 rfl ?_
    exact z_zret (pc := 55) x hret dJ6_equals_55
def s_J6_equals (E : zE) (a0 : Option Nat) (a1 : Option Nat) : zM := if a0 = a1 then (zRetN .boolean (1 : Int32)) else (zIsS 15 a1 (fun v8 => if v8 = 0 then (zRetN .boolean (0 : Int32)) else (zCsS 15 a1 (if (1 : Int32) = 0 then (s_J6_equals_36 E a0 a1) else (zGetI a0 15 1 (fun v26 => zGetI a1 15 1 (fun v30 => if v26 = v30 then (s_J6_equals_36 E a0 a1) else (zRetN .boolean (0 : Int32)))))))))
theorem m_J6_equals {l : Launch} {E : zE} {D : va_G} {tA : Nat → ClassId} (hl : l.stackTraces = false) (a0 : Option Nat) (a1 : Option Nat) : zMet l E D tA yJ6_equals (ws_ yJ6_equals cJ6_equals 3 (Option.some Jvm.ClassFile.FieldType.boolean)) 10 (s_J6_equals E a0 a1) [zP a0, zP a1] := by
  refine z_met hl (by decide +kernel) (by rw [zSl_len]; exact (Nat.le_of_ble_eq_true rfl)) fun p e R s m args below meth c k0 x hret hnm htab => ?_
  refine z_lv [(0, zP a0), (1, zP a1)] rfl ?_
  unfold s_J6_equals
  refine z_aload_n (pc := 0) x 0 dJ6_equals_0 rfl rfl ?_
  refine z_aload_n (pc := 1) x 1 dJ6_equals_1 rfl rfl ?_
  refine z_acmp_ne (pc := 2) (tgt := 7) x dJ6_equals_2 rfl (fun _ => ?_) (fun _ => ?_)
  · refine z_iconst (pc := 5) x (v := (1 : Int32)) dJ6_equals_5 rfl ?_
    exact z_zret (pc := 6) x hret dJ6_equals_6
  · refine z_aload_n (pc := 7) x 1 dJ6_equals_7 rfl rfl ?_
    refine z_isS (pc := 8) x (ci := 15) rfl q2602 dJ6_equals_8 fun v8 => ?_
    refine z_if_eq (pc := 11) (tgt := 54) x dJ6_equals_11 rfl (fun _ => ?_) (fun _ => ?_)
    · refine z_iconst (pc := 54) x (v := (0 : Int32)) dJ6_equals_54 rfl ?_
      exact z_zret (pc := 55) x hret dJ6_equals_55
    · refine z_aload_n (pc := 14) x 1 dJ6_equals_14 rfl rfl ?_
      refine z_csS (pc := 15) x (ci := 15) rfl q2602 dJ6_equals_15 ?_
      refine z_astore_n (pc := 18) (lv' := [(2, zP a1), (0, zP a0), (1, zP a1)]) x dJ6_equals_18 rfl (Nat.le_of_ble_eq_true rfl) rfl ?_
      refine z_staI (pc := 19) x (v := (1 : Int32)) (by decide) q1290 dJ6_equals_19 ?_
      refine z_if_eq (pc := 22) (tgt := 36) x dJ6_equals_22 rfl (fun _ => ?_) (fun _ => ?_)
      · exact z_sub [1, 0] rfl (w_J6_equals_36 x hl hret hnm htab a0 a1)
      · refine z_aload_n (pc := 25) x 1 dJ6_equals_25 rfl rfl ?_
        refine z_get (pc := 26) (fun _ _ h => zAsI_eq h) x in_J6 (ci := 15) rfl (k := 1) (by decide) q1437 (fun _ h => h) dJ6_equals_26 fun v26 => ?_
        refine z_aload_n (pc := 29) x 0 dJ6_equals_29 rfl rfl ?_
        refine z_get (pc := 30) (fun _ _ h => zAsI_eq h) x in_J6 (ci := 15) rfl (k := 1) (by decide) q1437 (fun _ h => h) dJ6_equals_30 fun v30 => ?_
        refine z_icmp_ne (pc := 33) (tgt := 54) x dJ6_equals_33 rfl (fun _ => ?_) (fun _ => ?_)
        · exact z_sub [1, 0] rfl (w_J6_equals_36 x hl hret hnm htab a0 a1)
        · refine z_iconst (pc := 54) x (v := (0 : Int32)) dJ6_equals_54 rfl ?_
          exact z_zret (pc := 55) x hret dJ6_equals_55
/-! X25_unsafeVariable -/
def s_X25_unsafeVariable_50 (E : zE) (k32 : Int32 → Int32 → Int32 → zM) (a1 : Int32) (a3 : Int32) (b0 : Int32) : zM := k32 a1 b0 (a3 + (-1 : Int32))
theorem w_X25_unsafeVariable_50 (x : zCx p l R s m args meth c E D tA cX25_unsafeVariable 4 yX25_unsafeVariable.cls 13) (hl : l.stackTraces = false) (hret : meth.sig.returnType = (Option.some Jvm.ClassFile.FieldType.int)) (hnm : meth.name = yX25_unsafeVariable.name) (htab : ∀ z ∈ c.exceptionTable.toList, False) {k32 : Int32 → Int32 → Int32 → zM} (h32 : ∀ (a1 : Int32) (a2 : Int32) (a3 : Int32) , zW p l e R s m args below meth c E D tA 4 k0 (k32 a1 a2 a3) [(1, zI a1), (2, zI a2), (3, zI a3)] 32 []) (a1 : Int32) (a3 : Int32) (b0 : Int32) : zW p l e R s m args below meth c E D tA 4 k0 (s_X25_unsafeVariable_50 E k32 a1 a3 b0) [(1, zI a1), (3, zI a3)] 50 [zI b0] := by
  unfold s_X25_unsafeVariable_50
  refine z_istore_n (pc := 50) (lv' := [(2, zI b0), (1, zI a1), (3, zI a3)]) x dX25_unsafeVariable_50 rfl (Nat.le_of_ble_eq_true rfl) rfl ?_
  refine z_iinc (pc := 51) (lv' := [(3, zI (a3 + (-1 : Int32))), (2, zI b0), (1, zI a1)]) x (v2 := (a3 + (-1 : Int32))) 2 dX25_unsafeVariable_51 rfl rfl (Nat.le_of_ble_eq_true rfl) rfl ?_
  refine z_goto (pc := 54) (tgt := 32) x dX25_unsafeVariable_54 rfl ?_
  exact z_sub [2, 1, 0] rfl (h32 a1 b0 (a3 + (-1 : Int32)))
def s_X25_unsafeVariable_32 (E : zE) : Nat → Int32 → Int32 → Int32 → zM
  | 0, _, _, _ => zFail
  | n + 1, a1, a2, a3 => if a3 < 0 then (zRet (some (.int a2))) else (if ((a1 >>> (a3 &&& 31)) &&& (1 : Int32)) = (1 : Int32) then (s_X25_unsafeVariable_50 E (s_X25_unsafeVariable_32 E n) a1 a3 a3) else (s_X25_unsafeVariable_50 E (s_X25_unsafeVariable_32 E n) a1 a3 a2))
theorem w_X25_unsafeVariable_32 (x : zCx p l R s m args meth c E D tA cX25_unsafeVariable 4 yX25_unsafeVariable.cls 13) (hl : l.stackTraces = false) (hret : meth.sig.returnType = (Option.some Jvm.ClassFile.FieldType.int)) (hnm : meth.name = yX25_unsafeVariable.name) (htab : ∀ z ∈ c.exceptionTable.toList, False) : ∀ (n : Nat) (a1 : Int32) (a2 : Int32) (a3 : Int32), zW p l e R s m args below meth c E D tA 4 k0 (s_X25_unsafeVariable_32 E n a1 a2 a3) [(1, zI a1), (2, zI a2), (3, zI a3)] 32 [] := by
  intro n
  induction n with
  | zero => intro a1 a2 a3; exact z_fail
  | succ n h32 =>
    intro a1 a2 a3
    rw [s_X25_unsafeVariable_32]
    refine z_iload_n (pc := 32) x 2 dX25_unsafeVariable_32 rfl rfl ?_
    refine z_if_lt (pc := 33) (tgt := 57) x dX25_unsafeVariable_33 rfl (fun _ => ?_) (fun _ => ?_)
    · refine z_iload_n (pc := 57) x 1 dX25_unsafeVariable_57 rfl rfl ?_
      exact z_iret (pc := 58) x hret dX25_unsafeVariable_58
    · refine z_iload_n (pc := 36) x 0 dX25_unsafeVariable_36 rfl rfl ?_
      refine z_iload_n (pc := 37) x 2 dX25_unsafeVariable_37 rfl rfl ?_
      refine z_ishr (pc := 38) x dX25_unsafeVariable_38 ?_
      refine z_iconst (pc := 39) x (v := (1 : Int32)) dX25_unsafeVariable_39 rfl ?_
      refine z_iand (pc := 40) x dX25_unsafeVariable_40 ?_
      refine z_iconst (pc := 41) x (v := (1 : Int32)) dX25_unsafeVariable_41 rfl ?_
      refine z_icmp_ne (pc := 42) (tgt := 49) x dX25_unsafeVariable_42 rfl (fun _ => ?_) (fun _ => ?_)
      · refine z_iload_n (pc := 45) x 2 dX25_unsafeVariable_45 rfl rfl ?_
        refine z_goto (pc := 46) (tgt := 50) x dX25_unsafeVariable_46 rfl ?_
        exact z_sub [0, 2] rfl (w_X25_unsafeVariable_50 x hl hret hnm htab h32 a1 a3 a3)
      · refine z_iload_n (pc := 49) x 1 dX25_unsafeVariable_49 rfl rfl ?_
        exact z_sub [0, 2] rfl (w_X25_unsafeVariable_50 x hl hret hnm htab h32 a1 a3 a2)
def s_X25_unsafeVariable (E : zE) (a0 : Option Nat) : zM := zGetR a0 31 0 (fun v1 => zC (zRv v1 [(37, fun b => s_X9_mask E (some b))]) zThr (zKI (fun v4 => zGetR a0 31 1 (fun v8 => zC (s_X26_masks E v8 (0 : Int32)) zThr (zKI (fun v12 => zGetR a0 31 1 (fun v17 => zC (s_X26_masks E v17 (1 : Int32)) zThr (zKI (fun v21 => s_X25_unsafeVariable_32 E zN ((v4 ||| v12) &&& (v21 ^^^ (-1 : Int32))) (-1 : Int32) (2 : Int32))))))))))
theorem m_X25_unsafeVariable {l : Launch} {E : zE} {D : va_G} {tA : Nat → ClassId} (hl : l.stackTraces = false) (a0 : Option Nat) : zMet l E D tA yX25_unsafeVariable (ws_ yX25_unsafeVariable cX25_unsafeVariable 4 (Option.some Jvm.ClassFile.FieldType.int)) 13 (s_X25_unsafeVariable E a0) [zP a0] := by
  refine z_met hl (by decide +kernel) (by rw [zSl_len]; exact (Nat.le_of_ble_eq_true rfl)) fun p e R s m args below meth c k0 x hret hnm htab => ?_
  refine z_lv [(0, zP a0)] rfl ?_
  unfold s_X25_unsafeVariable
  refine z_aload_n (pc := 0) x 0 dX25_unsafeVariable_0 rfl rfl ?_
  refine z_get (pc := 1) (fun _ _ h => zAsR_eq h) x in_X25 (ci := 31) rfl (k := 0) (by decide) q2492 (fun _ h => h) dX25_unsafeVariable_1 fun v1 => ?_
  refine z_call (pc := 4) (z_canV (pc := 4) (As := []) (st := []) x (ci := 37) rfl (fun b => m_X9_mask hl (some b)) q2451 q2452 (x.2.2.2.2.1 _ q2453) q143 q2454 n_X9_mask ⟨by decide, by decide⟩ (Nat.le_of_ble_eq_true rfl) dX25_unsafeVariable_4) (zv_I fun v4 => ?_) (fun q => zx_thr x (fun z hz => (htab z hz).elim) q)
  refine z_aload_n (pc := 7) x 0 dX25_unsafeVariable_7 rfl rfl ?_
  refine z_get (pc := 8) (fun _ _ h => zAsR_eq h) x in_X25 (ci := 31) rfl (k := 1) (by decide) q2502 (fun _ h => h) dX25_unsafeVariable_8 fun v8 => ?_
  refine z_iconst (pc := 11) x (v := (0 : Int32)) dX25_unsafeVariable_11 rfl ?_
  refine z_call (pc := 12) (z_canS (pc := 12) (As := [zP v8, zI (0 : Int32)]) (st := [zI v4]) x (m_X26_masks hl v8 (0 : Int32)) q2458 q2459 q165 q2460 n_X26_masks ⟨by decide, by decide⟩ (Nat.le_of_ble_eq_true rfl) dX25_unsafeVariable_12) (zv_I fun v12 => ?_) (fun q => zx_thr x (fun z hz => (htab z hz).elim) q)
  refine z_ior (pc := 15) x dX25_unsafeVariable_15 ?_
  refine z_aload_n (pc := 16) x 0 dX25_unsafeVariable_16 rfl rfl ?_
  refine z_get (pc := 17) (fun _ _ h => zAsR_eq h) x in_X25 (ci := 31) rfl (k := 1) (by decide) q2502 (fun _ h => h) dX25_unsafeVariable_17 fun v17 => ?_
  refine z_iconst (pc := 20) x (v := (1 : Int32)) dX25_unsafeVariable_20 rfl ?_
  refine z_call (pc := 21) (z_canS (pc := 21) (As := [zP v17, zI (1 : Int32)]) (st := [zI (v4 ||| v12)]) x (m_X26_masks hl v17 (1 : Int32)) q2458 q2459 q165 q2460 n_X26_masks ⟨by decide, by decide⟩ (Nat.le_of_ble_eq_true rfl) dX25_unsafeVariable_21) (zv_I fun v21 => ?_) (fun q => zx_thr x (fun z hz => (htab z hz).elim) q)
  refine z_iconst (pc := 24) x (v := (-1 : Int32)) dX25_unsafeVariable_24 rfl ?_
  refine z_ixor (pc := 25) x dX25_unsafeVariable_25 ?_
  refine z_iand (pc := 26) x dX25_unsafeVariable_26 ?_
  refine z_istore_n (pc := 27) (lv' := [(1, zI ((v4 ||| v12) &&& (v21 ^^^ (-1 : Int32)))), (0, zP a0)]) x dX25_unsafeVariable_27 rfl (Nat.le_of_ble_eq_true rfl) rfl ?_
  refine z_iconst (pc := 28) x (v := (-1 : Int32)) dX25_unsafeVariable_28 rfl ?_
  refine z_istore_n (pc := 29) (lv' := [(2, zI (-1 : Int32)), (1, zI ((v4 ||| v12) &&& (v21 ^^^ (-1 : Int32)))), (0, zP a0)]) x dX25_unsafeVariable_29 rfl (Nat.le_of_ble_eq_true rfl) rfl ?_
  refine z_iconst (pc := 30) x (v := (2 : Int32)) dX25_unsafeVariable_30 rfl ?_
  refine z_istore_n (pc := 31) (lv' := [(3, zI (2 : Int32)), (2, zI (-1 : Int32)), (1, zI ((v4 ||| v12) &&& (v21 ^^^ (-1 : Int32)))), (0, zP a0)]) x dX25_unsafeVariable_31 rfl (Nat.le_of_ble_eq_true rfl) rfl ?_
  exact z_sub [2, 1, 0] rfl (w_X25_unsafeVariable_32 x hl hret hnm htab zN ((v4 ||| v12) &&& (v21 ^^^ (-1 : Int32))) (-1 : Int32) (2 : Int32))
/-! X27_init -/
def s_X27_init (E : zE) (a0 : Option Nat) (a1 : Int32) (a2 : Int32) : zM := zXi E a0 2 2 (zSet E a0 2 0 (zVal (zI a1)) (zSet E a0 2 1 (zVal (zI a2)) (zRet none)))
theorem m_X27_init {l : Launch} {E : zE} {D : va_G} {tA : Nat → ClassId} (hl : l.stackTraces = false) (a0 : Option Nat) (a1 : Int32) (a2 : Int32) : zMet l E D tA yX27_init (ws_ yX27_init cX27_init 3 (Option.none : Option Jvm.ClassFile.FieldType)) 9 (s_X27_init E a0 a1 a2) [zP a0, zI a1, zI a2] := by
  refine z_met hl (by decide +kernel) (by rw [zSl_len]; exact (Nat.le_of_ble_eq_true rfl)) fun p e R s m args below meth c k0 x hret hnm htab => ?_
  refine z_lv [(0, zP a0), (1, zI a1), (2, zI a2)] rfl ?_
  unfold s_X27_init
  refine z_aload_n (pc := 0) x 0 dX27_init_0 rfl rfl ?_
  refine z_xinit (pc := 1) x (X := "BrambleLogic$RefusedException") (sup := "java/lang/Exception") (n := 8) (by decide) rfl rfl in_ZX27 tyZX27 tyZX27_ok (jb := 2) (by decide) rfl (by decide +kernel) (by decide +kernel) zx_chE q2632 q2621 q2623 q466 q2624 q2625 q2626 q2628 (by omega) (zSum (k := 0) rfl (by omega)) dX27_init_1 ?_
  refine z_aload_n (pc := 4) x 0 dX27_init_4 rfl rfl ?_
  refine z_iload_n (pc := 5) x 1 dX27_init_5 rfl rfl ?_
  refine z_setF (pc := 6) (v := zI a1) x in_ZX27 tyZX27 tyZX27_ok nmZX27 (ci := 2) rfl (k := 0) (by decide) q2633 (fun _ h => h) rfl hnm rfl rfl rfl dX27_init_6 ?_
  refine z_aload_n (pc := 9) x 0 dX27_init_9 rfl rfl ?_
  refine z_iload_n (pc := 10) x 2 dX27_init_10 rfl rfl ?_
  refine z_setF (pc := 11) (v := zI a2) x in_ZX27 tyZX27 tyZX27_ok nmZX27 (ci := 2) rfl (k := 1) (by decide) q2635 (fun _ h => h) rfl hnm rfl rfl rfl dX27_init_11 ?_
  exact z_vret (pc := 14) x hret dX27_init_14
/-! X1_refuseIf -/
def s_X1_refuseIf (E : zE) (a0 : Int32) (a1 : Int32) (a2 : Int32) : zM := if a0 = 0 then (zRet none) else (zNew 2 8 [.int 0, .int 0, .null] (fun v4 => zC (zSp v4 (fun b => s_X27_init E (some b) a1 a2)) zThr (zKV (zAth v4 zThr))))
theorem m_X1_refuseIf {l : Launch} {E : zE} {D : va_G} {tA : Nat → ClassId} (hl : l.stackTraces = false) (a0 : Int32) (a1 : Int32) (a2 : Int32) : zMet l E D tA yX1_refuseIf (ws_ yX1_refuseIf cX1_refuseIf 3 (Option.none : Option Jvm.ClassFile.FieldType)) 10 (s_X1_refuseIf E a0 a1 a2) [zI a0, zI a1, zI a2] := by
  refine z_met hl (by decide +kernel) (by rw [zSl_len]; exact (Nat.le_of_ble_eq_true rfl)) fun p e R s m args below meth c k0 x hret hnm htab => ?_
  refine z_lv [(0, zI a0), (1, zI a1), (2, zI a2)] rfl ?_
  unfold s_X1_refuseIf
  refine z_iload_n (pc := 0) x 0 dX1_refuseIf_0 rfl rfl ?_
  refine z_if_eq (pc := 1) (tgt := 14) x dX1_refuseIf_1 rfl (fun _ => ?_) (fun _ => ?_)
  · exact z_vret (pc := 14) x hret dX1_refuseIf_14
  · refine z_new (pc := 4) x in_ZX27 tyZX27 tyZX27_ok q2156 q2621 q166 (ci := 2) rfl (by decide) (by decide +kernel) dX1_refuseIf_4 fun v4 => ?_
    refine z_dup (pc := 7) x dX1_refuseIf_7 rfl ?_
    refine z_iload_n (pc := 8) x 1 dX1_refuseIf_8 rfl rfl ?_
    refine z_iload_n (pc := 9) x 2 dX1_refuseIf_9 rfl rfl ?_
    refine z_call (pc := 10) (z_canI (pc := 10) (ret := none) (As := [zI a1, zI a2]) (st := [zP v4]) x (fun b => m_X27_init hl (some b) a1 a2) q2629 rfl q2630 q166 q2631 n_X27_init ⟨by decide, by decide⟩ (Nat.le_of_ble_eq_true rfl) dX1_refuseIf_10) (zv_V ?_) (fun q => zx_thr x (fun z hz => (htab z hz).elim) q)
    exact z_athrow (pc := 13) x dX1_refuseIf_13 (fun q => zx_thr x (fun z hz => (htab z hz).elim) q)
/-! X2_sameRule -/
def s_X2_sameRule_45 (E : zE) (k4 : Option Nat → Option Nat → Int32 → Int32 → zM) (a0 : Option Nat) (a1 : Option Nat) (a3 : Int32) (b0 : Int32) : zM := k4 a0 a1 b0 (a3 + (1 : Int32))
theorem w_X2_sameRule_45 (x : zCx p l R s m args meth c E D tA cX2_sameRule 4 yX2_sameRule.cls 12) (hl : l.stackTraces = false) (hret : meth.sig.returnType = (Option.some Jvm.ClassFile.FieldType.int)) (hnm : meth.name = yX2_sameRule.name) (htab : ∀ z ∈ c.exceptionTable.toList, False) {k4 : Option Nat → Option Nat → Int32 → Int32 → zM} (h4 : ∀ (a0 : Option Nat) (a1 : Option Nat) (a2 : Int32) (a3 : Int32) , zW p l e R s m args below meth c E D tA 4 k0 (k4 a0 a1 a2 a3) [(0, zP a0), (1, zP a1), (2, zI a2), (3, zI a3)] 4 []) (a0 : Option Nat) (a1 : Option Nat) (a3 : Int32) (b0 : Int32) : zW p l e R s m args below meth c E D tA 4 k0 (s_X2_sameRule_45 E k4 a0 a1 a3 b0) [(0, zP a0), (1, zP a1), (3, zI a3)] 45 [zI b0] := by
  unfold s_X2_sameRule_45
  refine z_istore_n (pc := 45) (lv' := [(2, zI b0), (0, zP a0), (1, zP a1), (3, zI a3)]) x dX2_sameRule_45 rfl (Nat.le_of_ble_eq_true rfl) rfl ?_
  refine z_iinc (pc := 46) (lv' := [(3, zI (a3 + (1 : Int32))), (2, zI b0), (0, zP a0), (1, zP a1)]) x (v2 := (a3 + (1 : Int32))) 3 dX2_sameRule_46 rfl rfl (Nat.le_of_ble_eq_true rfl) rfl ?_
  refine z_goto (pc := 49) (tgt := 4) x dX2_sameRule_49 rfl ?_
  exact z_sub [2, 3, 1, 0] rfl (h4 a0 a1 b0 (a3 + (1 : Int32)))
def s_X2_sameRule_4 (E : zE) : Nat → Option Nat → Option Nat → Int32 → Int32 → zM
  | 0, _, _, _, _ => zFail
  | n + 1, a0, a1, a2, a3 => zGetR a0 26 1 (fun v6 => zC (zRv v6 [(10, fun b => s_J2_size E (some b))]) zThr (zKI (fun v9 => if v9 ≤ a3 then (zRet (some (.int a2))) else (zGetR a0 26 1 (fun v18 => zC (zRv v18 [(10, fun b => s_J2_get E (some b) a3)]) zThr (zKR (fun v22 => zCsS 31 v22 (zGetR v22 31 3 (fun v30 => zC (zRv v30 [(15, fun b => s_J6_equals E (some b) a1)]) zThr (zKI (fun v34 => if v34 = 0 then (s_X2_sameRule_45 E (s_X2_sameRule_4 E n) a0 a1 a3 a2) else (s_X2_sameRule_45 E (s_X2_sameRule_4 E n) a0 a1 a3 a3))))))))))))
theorem w_X2_sameRule_4 (x : zCx p l R s m args meth c E D tA cX2_sameRule 4 yX2_sameRule.cls 12) (hl : l.stackTraces = false) (hret : meth.sig.returnType = (Option.some Jvm.ClassFile.FieldType.int)) (hnm : meth.name = yX2_sameRule.name) (htab : ∀ z ∈ c.exceptionTable.toList, False) : ∀ (n : Nat) (a0 : Option Nat) (a1 : Option Nat) (a2 : Int32) (a3 : Int32), zW p l e R s m args below meth c E D tA 4 k0 (s_X2_sameRule_4 E n a0 a1 a2 a3) [(0, zP a0), (1, zP a1), (2, zI a2), (3, zI a3)] 4 [] := by
  intro n
  induction n with
  | zero => intro a0 a1 a2 a3; exact z_fail
  | succ n h4 =>
    intro a0 a1 a2 a3
    rw [s_X2_sameRule_4]
    refine z_iload_n (pc := 4) x 3 dX2_sameRule_4 rfl rfl ?_
    refine z_aload_n (pc := 5) x 0 dX2_sameRule_5 rfl rfl ?_
    refine z_get (pc := 6) (fun _ _ h => zAsR_eq h) x in_X2 (ci := 26) rfl (k := 1) (by decide) q252 (fun _ h => h) dX2_sameRule_6 fun v6 => ?_
    refine z_call (pc := 9) (z_canIF (pc := 9) (As := []) (st := [zI a3]) (x9 := ⟨"java/util/List", "size", "()I"⟩) x (ci := 10) rfl (fun b => m_J2_size hl (some b)) q1701 q767 q766 (by decide) q768 q770 q771 q769 q384 q112 q772 nx_java_util_List_size___I ⟨by decide, by decide⟩ (Nat.le_of_ble_eq_true rfl) dX2_sameRule_9) (zv_I fun v9 => ?_) (fun q => zx_thr x (fun z hz => (htab z hz).elim) q)
    refine z_icmp_ge (pc := 14) (tgt := 52) x dX2_sameRule_14 rfl (fun _ => ?_) (fun _ => ?_)
    · refine z_iload_n (pc := 52) x 2 dX2_sameRule_52 rfl rfl ?_
      exact z_iret (pc := 53) x hret dX2_sameRule_53
    · refine z_aload_n (pc := 17) x 0 dX2_sameRule_17 rfl rfl ?_
      refine z_get (pc := 18) (fun _ _ h => zAsR_eq h) x in_X2 (ci := 26) rfl (k := 1) (by decide) q252 (fun _ h => h) dX2_sameRule_18 fun v18 => ?_
      refine z_iload_n (pc := 21) x 3 dX2_sameRule_21 rfl rfl ?_
      refine z_call (pc := 22) (z_canIF (pc := 22) (As := [zI a3]) (st := []) (x9 := ⟨"java/util/List", "get", "(I)Ljava/lang/Object;"⟩) x (ci := 10) rfl (fun b => m_J2_get hl (some b) a3) q2648 q845 q844 (by decide) q846 q848 q849 q847 q384 q112 q850 nx_java_util_List_get__I_Ljava_lang_Object_ ⟨by decide, by decide⟩ (Nat.le_of_ble_eq_true rfl) dX2_sameRule_22) (zv_R fun v22 => ?_) (fun q => zx_thr x (fun z hz => (htab z hz).elim) q)
      refine z_csS (pc := 27) x (ci := 31) rfl q656 dX2_sameRule_27 ?_
      refine z_getN (pc := 30) (fun _ _ h => zAsR_eq h) x in_X25 (ci := 31) rfl (k := 3) (by decide) q2512 (fun _ h => h) dX2_sameRule_30 fun v30 => ?_
      refine z_aload_n (pc := 33) x 1 dX2_sameRule_33 rfl rfl ?_
      refine z_call (pc := 34) (z_canV (pc := 34) (As := [zP a1]) (st := []) x (ci := 15) rfl (fun b => m_J6_equals hl (some b) a1) q2649 q2599 (x.2.2.2.2.1 _ q2600) q119 q2601 n_J6_equals ⟨by decide, by decide⟩ (Nat.le_of_ble_eq_true rfl) dX2_sameRule_34) (zv_I fun v34 => ?_) (fun q => zx_thr x (fun z hz => (htab z hz).elim) q)
      refine z_if_eq (pc := 37) (tgt := 44) x dX2_sameRule_37 rfl (fun _ => ?_) (fun _ => ?_)
      · refine z_iload_n (pc := 44) x 2 dX2_sameRule_44 rfl rfl ?_
        exact z_sub [0, 1, 3] rfl (w_X2_sameRule_45 x hl hret hnm htab h4 a0 a1 a3 a2)
      · refine z_iload_n (pc := 40) x 3 dX2_sameRule_40 rfl rfl ?_
        refine z_goto (pc := 41) (tgt := 45) x dX2_sameRule_41 rfl ?_
        exact z_sub [0, 1, 3] rfl (w_X2_sameRule_45 x hl hret hnm htab h4 a0 a1 a3 a3)
def s_X2_sameRule (E : zE) (a0 : Option Nat) (a1 : Option Nat) : zM := s_X2_sameRule_4 E zN a0 a1 (-1 : Int32) (0 : Int32)
theorem m_X2_sameRule {l : Launch} {E : zE} {D : va_G} {tA : Nat → ClassId} (hl : l.stackTraces = false) (a0 : Option Nat) (a1 : Option Nat) : zMet l E D tA yX2_sameRule (ws_ yX2_sameRule cX2_sameRule 4 (Option.some Jvm.ClassFile.FieldType.int)) 12 (s_X2_sameRule E a0 a1) [zP a0, zP a1] := by
  refine z_met hl (by decide +kernel) (by rw [zSl_len]; exact (Nat.le_of_ble_eq_true rfl)) fun p e R s m args below meth c k0 x hret hnm htab => ?_
  refine z_lv [(0, zP a0), (1, zP a1)] rfl ?_
  unfold s_X2_sameRule
  refine z_iconst (pc := 0) x (v := (-1 : Int32)) dX2_sameRule_0 rfl ?_
  refine z_istore_n (pc := 1) (lv' := [(2, zI (-1 : Int32)), (0, zP a0), (1, zP a1)]) x dX2_sameRule_1 rfl (Nat.le_of_ble_eq_true rfl) rfl ?_
  refine z_iconst (pc := 2) x (v := (0 : Int32)) dX2_sameRule_2 rfl ?_
  refine z_istore_n (pc := 3) (lv' := [(3, zI (0 : Int32)), (2, zI (-1 : Int32)), (0, zP a0), (1, zP a1)]) x dX2_sameRule_3 rfl (Nat.le_of_ble_eq_true rfl) rfl ?_
  exact z_sub [2, 3, 1, 0] rfl (w_X2_sameRule_4 x hl hret hnm htab zN a0 a1 (-1 : Int32) (0 : Int32))
/-! J2_init_2 -/
def s_J2_init_2 (E : zE) (a0 : Option Nat) (a1 : Option Nat) : zM := zC (zSp a0 (fun b => s_J1_init E (some b))) zThr (zKV (zC (zRv a1 [(10, fun b => s_J2_toArray E (some b)), (13, fun b => s_J3_toArray E (some b))]) zThr (zKR (fun v5 => zLen v5 (fun v13 => zSet E a0 10 2 (zVal (zI v13)) (if v13 = 0 then (zSet E a0 10 1 (zVal (zP (some (E 6)))) (zRet none)) else zFail))))))
theorem m_J2_init_2 {l : Launch} {E : zE} {D : va_G} {tA : Nat → ClassId} (hl : l.stackTraces = false) (a0 : Option Nat) (a1 : Option Nat) : zMet l E D tA yJ2_init_2 (ws_ yJ2_init_2 cJ2_init_2 3 (Option.none : Option Jvm.ClassFile.FieldType)) 12 (s_J2_init_2 E a0 a1) [zP a0, zP a1] := by
  refine z_met hl (by decide +kernel) (by rw [zSl_len]; exact (Nat.le_of_ble_eq_true rfl)) fun p e R s m args below meth c k0 x hret hnm htab => ?_
  refine z_lv [(0, zP a0), (1, zP a1)] rfl ?_
  unfold s_J2_init_2
  refine z_aload_n (pc := 0) x 0 dJ2_init_2_0 rfl rfl ?_
  refine z_call (pc := 1) (z_canI (pc := 1) (ret := none) (As := []) (st := []) x (fun b => m_J1_init hl (some b)) q186 rfl q187 q111 q188 n_J1_init ⟨by decide, by decide⟩ (Nat.le_of_ble_eq_true rfl) dJ2_init_2_1) (zv_V ?_) (fun q => zx_thr x (fun z hz => (htab z hz).elim) q)
  refine z_aload_n (pc := 4) x 1 dJ2_init_2_4 rfl rfl ?_
  refine z_call (pc := 5) (z_can_cons (z_canIF (pc := 5) (As := []) (st := []) (x9 := ⟨"java/util/Collection", "toArray", "()[Ljava/lang/Object;"⟩) x (ci := 10) rfl (fun b => m_J2_toArray hl (some b)) q1483 q1485 q1484 (by decide) q1502 q1504 q1505 q1503 q1501 q112 q1506 nx_java_util_Collection_toArray____Ljava_lang_Object_ ⟨by decide, by decide⟩ (Nat.le_of_ble_eq_true rfl) dJ2_init_2_5) (z_can_cons (z_canIF (pc := 5) (As := []) (st := []) (x9 := ⟨"java/util/Collection", "toArray", "()[Ljava/lang/Object;"⟩) x (ci := 13) rfl (fun b => m_J3_toArray hl (some b)) q1483 q1485 q1484 (by decide) q1487 q1489 q1490 q1488 q1486 q116 q1491 nx_java_util_Collection_toArray____Ljava_lang_Object_ ⟨by decide, by decide⟩ (Nat.le_of_ble_eq_true rfl) dJ2_init_2_5) (z_can_nil))) (zv_R fun v5 => ?_) (fun q => zx_thr x (fun z hz => (htab z hz).elim) q)
  refine z_astore_n (pc := 10) (lv' := [(2, zP v5), (0, zP a0), (1, zP a1)]) x dJ2_init_2_10 rfl (Nat.le_of_ble_eq_true rfl) rfl ?_
  refine z_aload_n (pc := 11) x 1 dJ2_init_2_11 rfl rfl ?_
  refine z_aload_n (pc := 12) x 0 dJ2_init_2_12 rfl rfl ?_
  refine z_len (pc := 13) x dJ2_init_2_13 fun v13 => ?_
  refine z_dup_x1 (pc := 14) x dJ2_init_2_14 rfl rfl ?_
  refine z_set (pc := 15) (v := zI v13) x in_J2 tyJ2 tyJ2_ok nmJ2 (ci := 10) rfl (k := 2) (by decide) q198 (fun _ h => h) rfl rfl rfl dJ2_init_2_15 ?_
  refine z_if_eq (pc := 18) (tgt := 57) x dJ2_init_2_18 rfl (fun _ => ?_) (fun _ => ?_)
  · refine z_aload_n (pc := 57) x 1 dJ2_init_2_57 rfl rfl ?_
    refine z_staR (pc := 58) x (k := 6) (by decide) q2667 dJ2_init_2_58 ?_
    refine z_set (pc := 61) (v := zP (some (E 6))) x in_J2 tyJ2 tyJ2_ok nmJ2 (ci := 10) rfl (k := 1) (by decide) q195 (fun _ h => h) rfl (zfitR rfl _).1 (zfitR rfl _).2 dJ2_init_2_61 ?_
    exact z_vret (pc := 64) x hret dJ2_init_2_64
  · exact z_fail
/-! X7_isCircle -/
def s_X7_isCircle_38 (E : zE) (k13 : Int32 → Option Nat → Int32 → Int32 → zM) (a2 : Option Nat) (a3 : Int32) (a4 : Int32) (b0 : Int32) (b1 : Int32) : zM := k13 (b0 ||| b1) a2 a3 (a4 + (1 : Int32))
theorem w_X7_isCircle_38 (x : zCx p l R s m args meth c E D tA cX7_isCircle 6 yX7_isCircle.cls 11) (hl : l.stackTraces = false) (hret : meth.sig.returnType = (Option.some Jvm.ClassFile.FieldType.boolean)) (hnm : meth.name = yX7_isCircle.name) (htab : ∀ z ∈ c.exceptionTable.toList, False) {k13 : Int32 → Option Nat → Int32 → Int32 → zM} (h13 : ∀ (a1 : Int32) (a2 : Option Nat) (a3 : Int32) (a4 : Int32) , zW p l e R s m args below meth c E D tA 6 k0 (k13 a1 a2 a3 a4) [(1, zI a1), (2, zP a2), (3, zI a3), (4, zI a4)] 13 []) (a2 : Option Nat) (a3 : Int32) (a4 : Int32) (b0 : Int32) (b1 : Int32) : zW p l e R s m args below meth c E D tA 6 k0 (s_X7_isCircle_38 E k13 a2 a3 a4 b0 b1) [(2, zP a2), (3, zI a3), (4, zI a4)] 38 [zI b1, zI b0] := by
  unfold s_X7_isCircle_38
  refine z_ior (pc := 38) x dX7_isCircle_38 ?_
  refine z_istore_n (pc := 39) (lv' := [(1, zI (b0 ||| b1)), (2, zP a2), (3, zI a3), (4, zI a4)]) x dX7_isCircle_39 rfl (Nat.le_of_ble_eq_true rfl) rfl ?_
  refine z_iinc (pc := 40) (lv' := [(4, zI (a4 + (1 : Int32))), (1, zI (b0 ||| b1)), (2, zP a2), (3, zI a3)]) x (v2 := (a4 + (1 : Int32))) 3 dX7_isCircle_40 rfl rfl (Nat.le_of_ble_eq_true rfl) rfl ?_
  refine z_goto (pc := 43) (tgt := 13) x dX7_isCircle_43 rfl ?_
  exact z_sub [1, 2, 3, 0] rfl (h13 (b0 ||| b1) a2 a3 (a4 + (1 : Int32)))
def s_X7_isCircle_13 (E : zE) : Nat → Int32 → Option Nat → Int32 → Int32 → zM
  | 0, _, _, _, _ => zFail
  | n + 1, a1, a2, a3, a4 => if a3 ≤ a4 then (zRetN .boolean a1) else (zGaI 0 a2 a4 (fun v22 => if v22 = (8 : Int32) then (s_X7_isCircle_38 E (s_X7_isCircle_13 E n) a2 a3 a4 a1 (1 : Int32)) else (s_X7_isCircle_38 E (s_X7_isCircle_13 E n) a2 a3 a4 a1 (0 : Int32))))
theorem w_X7_isCircle_13 (x : zCx p l R s m args meth c E D tA cX7_isCircle 6 yX7_isCircle.cls 11) (hl : l.stackTraces = false) (hret : meth.sig.returnType = (Option.some Jvm.ClassFile.FieldType.boolean)) (hnm : meth.name = yX7_isCircle.name) (htab : ∀ z ∈ c.exceptionTable.toList, False) : ∀ (n : Nat) (a1 : Int32) (a2 : Option Nat) (a3 : Int32) (a4 : Int32), zW p l e R s m args below meth c E D tA 6 k0 (s_X7_isCircle_13 E n a1 a2 a3 a4) [(1, zI a1), (2, zP a2), (3, zI a3), (4, zI a4)] 13 [] := by
  intro n
  induction n with
  | zero => intro a1 a2 a3 a4; exact z_fail
  | succ n h13 =>
    intro a1 a2 a3 a4
    rw [s_X7_isCircle_13]
    refine z_iload (pc := 13) x 3 dX7_isCircle_13 rfl ?_
    refine z_iload_n (pc := 15) x 2 dX7_isCircle_15 rfl rfl ?_
    refine z_icmp_ge (pc := 16) (tgt := 46) x dX7_isCircle_16 rfl (fun _ => ?_) (fun _ => ?_)
    · refine z_iload_n (pc := 46) x 0 dX7_isCircle_46 rfl rfl ?_
      exact z_zret (pc := 47) x hret dX7_isCircle_47
    · refine z_aload_n (pc := 19) x 1 dX7_isCircle_19 rfl rfl ?_
      refine z_iload (pc := 20) x 3 dX7_isCircle_20 rfl ?_
      refine z_iald (pc := 22) x (t := 0) rfl dX7_isCircle_22 fun v22 => ?_
      refine z_istore (pc := 23) (lv' := [(5, zI v22), (1, zI a1), (2, zP a2), (3, zI a3), (4, zI a4)]) x dX7_isCircle_23 (Nat.le_of_ble_eq_true rfl) rfl ?_
      refine z_iload_n (pc := 25) x 1 dX7_isCircle_25 rfl rfl ?_
      refine z_iload (pc := 26) x 0 dX7_isCircle_26 rfl ?_
      refine z_bipush (pc := 28) x (v := (8 : Int32)) dX7_isCircle_28 rfl ?_
      refine z_icmp_ne (pc := 30) (tgt := 37) x dX7_isCircle_30 rfl (fun _ => ?_) (fun _ => ?_)
      · refine z_iconst (pc := 33) x (v := (1 : Int32)) dX7_isCircle_33 rfl ?_
        refine z_goto (pc := 34) (tgt := 38) x dX7_isCircle_34 rfl ?_
        exact z_sub [2, 3, 4] rfl (w_X7_isCircle_38 x hl hret hnm htab h13 a2 a3 a4 a1 (1 : Int32))
      · refine z_iconst (pc := 37) x (v := (0 : Int32)) dX7_isCircle_37 rfl ?_
        exact z_sub [2, 3, 4] rfl (w_X7_isCircle_38 x hl hret hnm htab h13 a2 a3 a4 a1 (0 : Int32))
def s_X7_isCircle (E : zE) (a0 : Option Nat) : zM := zC (zRv a0 [(35, fun b => s_X7_layers E (some b))]) zThr (zKR (fun v3 => zLen v3 (fun v8 => s_X7_isCircle_13 E zN (0 : Int32) v3 v8 (0 : Int32))))
theorem m_X7_isCircle {l : Launch} {E : zE} {D : va_G} {tA : Nat → ClassId} (hl : l.stackTraces = false) (a0 : Option Nat) : zMet l E D tA yX7_isCircle (ws_ yX7_isCircle cX7_isCircle 6 (Option.some Jvm.ClassFile.FieldType.boolean)) 11 (s_X7_isCircle E a0) [zP a0] := by
  refine z_met hl (by decide +kernel) (by rw [zSl_len]; exact (Nat.le_of_ble_eq_true rfl)) fun p e R s m args below meth c k0 x hret hnm htab => ?_
  refine z_lv [(0, zP a0)] rfl ?_
  unfold s_X7_isCircle
  refine z_iconst (pc := 0) x (v := (0 : Int32)) dX7_isCircle_0 rfl ?_
  refine z_istore_n (pc := 1) (lv' := [(1, zI (0 : Int32)), (0, zP a0)]) x dX7_isCircle_1 rfl (Nat.le_of_ble_eq_true rfl) rfl ?_
  refine z_aload_n (pc := 2) x 1 dX7_isCircle_2 rfl rfl ?_
  refine z_call (pc := 3) (z_canV (pc := 3) (As := []) (st := []) x (ci := 35) rfl (fun b => m_X7_layers hl (some b)) q2673 q602 (x.2.2.2.2.1 _ q603) q138 q604 n_X7_layers ⟨by decide, by decide⟩ (Nat.le_of_ble_eq_true rfl) dX7_isCircle_3) (zv_R fun v3 => ?_) (fun q => zx_thr x (fun z hz => (htab z hz).elim) q)
  refine z_astore_n (pc := 6) (lv' := [(2, zP v3), (1, zI (0 : Int32)), (0, zP a0)]) x dX7_isCircle_6 rfl (Nat.le_of_ble_eq_true rfl) rfl ?_
  refine z_aload_n (pc := 7) x 0 dX7_isCircle_7 rfl rfl ?_
  refine z_len (pc := 8) x dX7_isCircle_8 fun v8 => ?_
  refine z_istore_n (pc := 9) (lv' := [(3, zI v8), (2, zP v3), (1, zI (0 : Int32)), (0, zP a0)]) x dX7_isCircle_9 rfl (Nat.le_of_ble_eq_true rfl) rfl ?_
  refine z_iconst (pc := 10) x (v := (0 : Int32)) dX7_isCircle_10 rfl ?_
  refine z_istore (pc := 11) (lv' := [(4, zI (0 : Int32)), (3, zI v8), (2, zP v3), (1, zI (0 : Int32)), (0, zP a0)]) x dX7_isCircle_11 (Nat.le_of_ble_eq_true rfl) rfl ?_
  exact z_sub [3, 2, 1, 0] rfl (w_X7_isCircle_13 x hl hret hnm htab zN (0 : Int32) v3 v8 (0 : Int32))
/-! X2_makesCircle -/
def s_X2_makesCircle (E : zE) (a0 : Option Nat) (a1 : Option Nat) : zM := zNew 10 3 [.int 0, .null, .int 0] (fun v0 => zGetR a0 26 1 (fun v5 => zC (zSp v0 (fun b => s_J2_init_2 E (some b) v5)) zThr (zKV (zC (zRv v0 [(10, fun b => s_J2_add E (some b) a1)]) zThr (zKI (fun v14 => zNew 35 2 [.null, .null] (fun v20 => zC (zSp v20 (fun b => s_X7_init E (some b) v0)) zThr (zKV (zC (zRv v20 [(35, fun b => s_X7_isCircle E (some b))]) zThr (zKI (fun v28 => zRetN .boolean v28)))))))))))
theorem m_X2_makesCircle {l : Launch} {E : zE} {D : va_G} {tA : Nat → ClassId} (hl : l.stackTraces = false) (a0 : Option Nat) (a1 : Option Nat) : zMet l E D tA yX2_makesCircle (ws_ yX2_makesCircle cX2_makesCircle 3 (Option.some Jvm.ClassFile.FieldType.boolean)) 15 (s_X2_makesCircle E a0 a1) [zP a0, zP a1] := by
  refine z_met hl (by decide +kernel) (by rw [zSl_len]; exact (Nat.le_of_ble_eq_true rfl)) fun p e R s m args below meth c k0 x hret hnm htab => ?_
  refine z_lv [(0, zP a0), (1, zP a1)] rfl ?_
  unfold s_X2_makesCircle
  refine z_new (pc := 0) x in_J2 tyJ2 tyJ2_ok q181 q182 q112 (ci := 10) rfl (by decide) (by decide +kernel) dX2_makesCircle_0 fun v0 => ?_
  refine z_dup (pc := 3) x dX2_makesCircle_3 rfl ?_
  refine z_aload_n (pc := 4) x 0 dX2_makesCircle_4 rfl rfl ?_
  refine z_get (pc := 5) (fun _ _ h => zAsR_eq h) x in_X2 (ci := 26) rfl (k := 1) (by decide) q252 (fun _ h => h) dX2_makesCircle_5 fun v5 => ?_
  refine z_call (pc := 8) (z_canI (pc := 8) (ret := none) (As := [zP v5]) (st := [zP v0]) x (fun b => m_J2_init_2 hl (some b) v5) q2654 rfl q2655 q112 q2656 n_J2_init_2 ⟨by decide, by decide⟩ (Nat.le_of_ble_eq_true rfl) dX2_makesCircle_8) (zv_V ?_) (fun q => zx_thr x (fun z hz => (htab z hz).elim) q)
  refine z_astore_n (pc := 11) (lv' := [(2, zP v0), (0, zP a0), (1, zP a1)]) x dX2_makesCircle_11 rfl (Nat.le_of_ble_eq_true rfl) rfl ?_
  refine z_aload_n (pc := 12) x 0 dX2_makesCircle_12 rfl rfl ?_
  refine z_aload_n (pc := 13) x 2 dX2_makesCircle_13 rfl rfl ?_
  refine z_call (pc := 14) (z_canIF (pc := 14) (As := [zP a1]) (st := []) (x9 := ⟨"java/util/List", "add", "(Ljava/lang/Object;)Z"⟩) x (ci := 10) rfl (fun b => m_J2_add hl (some b) a1) q658 q660 q659 (by decide) q661 q663 q664 q662 q384 q112 q665 nx_java_util_List_add__Ljava_lang_Object__Z ⟨by decide, by decide⟩ (Nat.le_of_ble_eq_true rfl) dX2_makesCircle_14) (zv_I fun v14 => ?_) (fun q => zx_thr x (fun z hz => (htab z hz).elim) q)
  refine z_pop (pc := 19) x dX2_makesCircle_19 rfl ?_
  refine z_new (pc := 20) x in_X7 tyX7 tyX7_ok q372 q373 q138 (ci := 35) rfl (by decide) (by decide +kernel) dX2_makesCircle_20 fun v20 => ?_
  refine z_dup (pc := 23) x dX2_makesCircle_23 rfl ?_
  refine z_aload_n (pc := 24) x 0 dX2_makesCircle_24 rfl rfl ?_
  refine z_call (pc := 25) (z_canI (pc := 25) (ret := none) (As := [zP v0]) (st := [zP v20]) x (fun b => m_X7_init hl (some b) v0) q374 rfl q375 q138 q376 n_X7_init ⟨by decide, by decide⟩ (Nat.le_of_ble_eq_true rfl) dX2_makesCircle_25) (zv_V ?_) (fun q => zx_thr x (fun z hz => (htab z hz).elim) q)
  refine z_call (pc := 28) (z_canV (pc := 28) (As := []) (st := []) x (ci := 35) rfl (fun b => m_X7_isCircle hl (some b)) q2669 q2670 (x.2.2.2.2.1 _ q2671) q138 q2672 n_X7_isCircle ⟨by decide, by decide⟩ (Nat.le_of_ble_eq_true rfl) dX2_makesCircle_28) (zv_I fun v28 => ?_) (fun q => zx_thr x (fun z hz => (htab z hz).elim) q)
  exact z_zret (pc := 31) x hret dX2_makesCircle_31
/-! X2_addRule -/
def s_X2_addRule_100 (E : zE) (a0 : Option Nat) (a1 : Option Nat) (b0 : Int32) : zM := zC (s_X1_refuseIf E b0 (4 : Int32) (8 : Int32)) zThr (zKV (zGetR a0 26 1 (fun v107 => zC (zRv v107 [(10, fun b => s_J2_add E (some b) a1)]) zThr (zKI (fun v111 => zSet E a0 26 3 (zVal (zP none)) (zGetR a0 26 1 (fun v123 => zC (zRv v123 [(10, fun b => s_J2_size E (some b))]) zThr (zKI (fun v126 => zRet (some (.int (v126 - (1 : Int32)))))))))))))
theorem w_X2_addRule_100 (x : zCx p l R s m args meth c E D tA cX2_addRule 2 yX2_addRule.cls 16) (hl : l.stackTraces = false) (hret : meth.sig.returnType = (Option.some Jvm.ClassFile.FieldType.int)) (hnm : meth.name = yX2_addRule.name) (htab : ∀ z ∈ c.exceptionTable.toList, False) (a0 : Option Nat) (a1 : Option Nat) (b0 : Int32) : zW p l e R s m args below meth c E D tA 2 k0 (s_X2_addRule_100 E a0 a1 b0) [(0, zP a0), (1, zP a1)] 100 [zI b0] := by
  unfold s_X2_addRule_100
  refine z_iconst (pc := 100) x (v := (4 : Int32)) dX2_addRule_100 rfl ?_
  refine z_bipush (pc := 101) x (v := (8 : Int32)) dX2_addRule_101 rfl ?_
  refine z_call (pc := 103) (z_canSN (pc := 103) (As := [zI b0, zI (4 : Int32), zI (8 : Int32)]) (st := []) x (m_X1_refuseIf hl b0 (4 : Int32) (8 : Int32)) q2618 q2619 q108 q2620 n_X1_refuseIf ⟨by decide, by decide⟩ (Nat.le_of_ble_eq_true rfl) dX2_addRule_103) (zv_V ?_) (fun q => zx_thr x (fun z hz => (htab z hz).elim) q)
  refine z_aload_n (pc := 106) x 0 dX2_addRule_106 rfl rfl ?_
  refine z_get (pc := 107) (fun _ _ h => zAsR_eq h) x in_X2 (ci := 26) rfl (k := 1) (by decide) q252 (fun _ h => h) dX2_addRule_107 fun v107 => ?_
  refine z_aload_n (pc := 110) x 1 dX2_addRule_110 rfl rfl ?_
  refine z_call (pc := 111) (z_canIF (pc := 111) (As := [zP a1]) (st := []) (x9 := ⟨"java/util/List", "add", "(Ljava/lang/Object;)Z"⟩) x (ci := 10) rfl (fun b => m_J2_add hl (some b) a1) q658 q660 q659 (by decide) q661 q663 q664 q662 q384 q112 q665 nx_java_util_List_add__Ljava_lang_Object__Z ⟨by decide, by decide⟩ (Nat.le_of_ble_eq_true rfl) dX2_addRule_111) (zv_I fun v111 => ?_) (fun q => zx_thr x (fun z hz => (htab z hz).elim) q)
  refine z_pop (pc := 116) x dX2_addRule_116 rfl ?_
  refine z_aload_n (pc := 117) x 0 dX2_addRule_117 rfl rfl ?_
  refine z_null (pc := 118) x dX2_addRule_118 ?_
  refine z_set (pc := 119) (v := zP none) x in_X2 tyX2 tyX2_ok nmX2 (ci := 26) rfl (k := 3) (by decide) q258 (fun _ h => h) rfl (zfitR rfl _).1 (zfitR rfl _).2 dX2_addRule_119 ?_
  refine z_aload_n (pc := 122) x 0 dX2_addRule_122 rfl rfl ?_
  refine z_get (pc := 123) (fun _ _ h => zAsR_eq h) x in_X2 (ci := 26) rfl (k := 1) (by decide) q252 (fun _ h => h) dX2_addRule_123 fun v123 => ?_
  refine z_call (pc := 126) (z_canIF (pc := 126) (As := []) (st := []) (x9 := ⟨"java/util/List", "size", "()I"⟩) x (ci := 10) rfl (fun b => m_J2_size hl (some b)) q1701 q767 q766 (by decide) q768 q770 q771 q769 q384 q112 q772 nx_java_util_List_size___I ⟨by decide, by decide⟩ (Nat.le_of_ble_eq_true rfl) dX2_addRule_126) (zv_I fun v126 => ?_) (fun q => zx_thr x (fun z hz => (htab z hz).elim) q)
  refine z_iconst (pc := 131) x (v := (1 : Int32)) dX2_addRule_131 rfl ?_
  refine z_isub (pc := 132) x dX2_addRule_132 ?_
  exact z_iret (pc := 133) x hret dX2_addRule_133
def s_X2_addRule_38 (E : zE) (a0 : Option Nat) (a1 : Option Nat) (b0 : Int32) : zM := zGetR a1 31 3 (fun v41 => zC (zRv a0 [(26, fun b => s_X2_sameRule E (some b) v41)]) zThr (zKI (fun v44 => zC (s_X1_refuseIf E b0 (2 : Int32) v44) zThr (zKV (zC (zRv a0 [(26, fun b => s_X2_makesCircle E (some b) a1)]) zThr (zKI (fun v52 => zNew 35 2 [.null, .null] (fun v56 => zGetR a0 26 1 (fun v61 => zC (zSp v56 (fun b => s_X7_init E (some b) v61)) zThr (zKV (zC (zRv v56 [(35, fun b => s_X7_layers E (some b))]) zThr (zKR (fun v67 => zGetR a1 31 0 (fun v71 => zGetI v71 37 0 (fun v74 => zGaI 0 v67 v74 (fun v77 => zC (s_X1_refuseIf E v52 (3 : Int32) v77) zThr (zKV (zGetR a0 26 1 (fun v82 => zC (zRv v82 [(10, fun b => s_J2_size E (some b))]) zThr (zKI (fun v85 => if v85 = (8 : Int32) then (s_X2_addRule_100 E a0 a1 (1 : Int32)) else (s_X2_addRule_100 E a0 a1 (0 : Int32)))))))))))))))))))))))
theorem w_X2_addRule_38 (x : zCx p l R s m args meth c E D tA cX2_addRule 2 yX2_addRule.cls 16) (hl : l.stackTraces = false) (hret : meth.sig.returnType = (Option.some Jvm.ClassFile.FieldType.int)) (hnm : meth.name = yX2_addRule.name) (htab : ∀ z ∈ c.exceptionTable.toList, False) (a0 : Option Nat) (a1 : Option Nat) (b0 : Int32) : zW p l e R s m args below meth c E D tA 2 k0 (s_X2_addRule_38 E a0 a1 b0) [(0, zP a0), (1, zP a1)] 38 [zI b0] := by
  unfold s_X2_addRule_38
  refine z_iconst (pc := 38) x (v := (2 : Int32)) dX2_addRule_38 rfl ?_
  refine z_aload_n (pc := 39) x 0 dX2_addRule_39 rfl rfl ?_
  refine z_aload_n (pc := 40) x 1 dX2_addRule_40 rfl rfl ?_
  refine z_getN (pc := 41) (fun _ _ h => zAsR_eq h) x in_X25 (ci := 31) rfl (k := 3) (by decide) q2512 (fun _ h => h) dX2_addRule_41 fun v41 => ?_
  refine z_call (pc := 44) (z_canV (pc := 44) (As := [zP v41]) (st := [zI (2 : Int32), zI b0]) x (ci := 26) rfl (fun b => m_X2_sameRule hl (some b) v41) q2643 q2645 (z_selP x (ci := 26) rfl (by decide) (zNi_inst x q176) q2644 q2645) q109 q2646 n_X2_sameRule ⟨by decide, by decide⟩ (Nat.le_of_ble_eq_true rfl) dX2_addRule_44) (zv_I fun v44 => ?_) (fun q => zx_thr x (fun z hz => (htab z hz).elim) q)
  refine z_call (pc := 47) (z_canSN (pc := 47) (As := [zI b0, zI (2 : Int32), zI v44]) (st := []) x (m_X1_refuseIf hl b0 (2 : Int32) v44) q2618 q2619 q108 q2620 n_X1_refuseIf ⟨by decide, by decide⟩ (Nat.le_of_ble_eq_true rfl) dX2_addRule_47) (zv_V ?_) (fun q => zx_thr x (fun z hz => (htab z hz).elim) q)
  refine z_aload_n (pc := 50) x 0 dX2_addRule_50 rfl rfl ?_
  refine z_aload_n (pc := 51) x 1 dX2_addRule_51 rfl rfl ?_
  refine z_call (pc := 52) (z_canV (pc := 52) (As := [zP a1]) (st := []) x (ci := 26) rfl (fun b => m_X2_makesCircle hl (some b) a1) q2650 q2652 (z_selP x (ci := 26) rfl (by decide) (zNi_inst x q176) q2651 q2652) q109 q2653 n_X2_makesCircle ⟨by decide, by decide⟩ (Nat.le_of_ble_eq_true rfl) dX2_addRule_52) (zv_I fun v52 => ?_) (fun q => zx_thr x (fun z hz => (htab z hz).elim) q)
  refine z_iconst (pc := 55) x (v := (3 : Int32)) dX2_addRule_55 rfl ?_
  refine z_new (pc := 56) x in_X7 tyX7 tyX7_ok q372 q373 q138 (ci := 35) rfl (by decide) (by decide +kernel) dX2_addRule_56 fun v56 => ?_
  refine z_dup (pc := 59) x dX2_addRule_59 rfl ?_
  refine z_aload_n (pc := 60) x 0 dX2_addRule_60 rfl rfl ?_
  refine z_get (pc := 61) (fun _ _ h => zAsR_eq h) x in_X2 (ci := 26) rfl (k := 1) (by decide) q252 (fun _ h => h) dX2_addRule_61 fun v61 => ?_
  refine z_call (pc := 64) (z_canI (pc := 64) (ret := none) (As := [zP v61]) (st := [zP v56, zI (3 : Int32), zI v52]) x (fun b => m_X7_init hl (some b) v61) q374 rfl q375 q138 q376 n_X7_init ⟨by decide, by decide⟩ (Nat.le_of_ble_eq_true rfl) dX2_addRule_64) (zv_V ?_) (fun q => zx_thr x (fun z hz => (htab z hz).elim) q)
  refine z_call (pc := 67) (z_canV (pc := 67) (As := []) (st := [zI (3 : Int32), zI v52]) x (ci := 35) rfl (fun b => m_X7_layers hl (some b)) q601 q602 (x.2.2.2.2.1 _ q603) q138 q604 n_X7_layers ⟨by decide, by decide⟩ (Nat.le_of_ble_eq_true rfl) dX2_addRule_67) (zv_R fun v67 => ?_) (fun q => zx_thr x (fun z hz => (htab z hz).elim) q)
  refine z_aload_n (pc := 70) x 1 dX2_addRule_70 rfl rfl ?_
  refine z_getN (pc := 71) (fun _ _ h => zAsR_eq h) x in_X25 (ci := 31) rfl (k := 0) (by decide) q2499 (fun _ h => h) dX2_addRule_71 fun v71 => ?_
  refine z_getN (pc := 74) (fun _ _ h => zAsI_eq h) x in_X9 (ci := 37) rfl (k := 0) (by decide) q2367 (fun _ h => h) dX2_addRule_74 fun v74 => ?_
  refine z_iald (pc := 77) x (t := 0) rfl dX2_addRule_77 fun v77 => ?_
  refine z_call (pc := 78) (z_canSN (pc := 78) (As := [zI v52, zI (3 : Int32), zI v77]) (st := []) x (m_X1_refuseIf hl v52 (3 : Int32) v77) q2618 q2619 q108 q2620 n_X1_refuseIf ⟨by decide, by decide⟩ (Nat.le_of_ble_eq_true rfl) dX2_addRule_78) (zv_V ?_) (fun q => zx_thr x (fun z hz => (htab z hz).elim) q)
  refine z_aload_n (pc := 81) x 0 dX2_addRule_81 rfl rfl ?_
  refine z_get (pc := 82) (fun _ _ h => zAsR_eq h) x in_X2 (ci := 26) rfl (k := 1) (by decide) q252 (fun _ h => h) dX2_addRule_82 fun v82 => ?_
  refine z_call (pc := 85) (z_canIF (pc := 85) (As := []) (st := []) (x9 := ⟨"java/util/List", "size", "()I"⟩) x (ci := 10) rfl (fun b => m_J2_size hl (some b)) q1701 q767 q766 (by decide) q768 q770 q771 q769 q384 q112 q772 nx_java_util_List_size___I ⟨by decide, by decide⟩ (Nat.le_of_ble_eq_true rfl) dX2_addRule_85) (zv_I fun v85 => ?_) (fun q => zx_thr x (fun z hz => (htab z hz).elim) q)
  refine z_bipush (pc := 90) x (v := (8 : Int32)) dX2_addRule_90 rfl ?_
  refine z_icmp_ne (pc := 92) (tgt := 99) x dX2_addRule_92 rfl (fun _ => ?_) (fun _ => ?_)
  · refine z_iconst (pc := 95) x (v := (1 : Int32)) dX2_addRule_95 rfl ?_
    refine z_goto (pc := 96) (tgt := 100) x dX2_addRule_96 rfl ?_
    exact z_sub [0, 1] rfl (w_X2_addRule_100 x hl hret hnm htab a0 a1 (1 : Int32))
  · refine z_iconst (pc := 99) x (v := (0 : Int32)) dX2_addRule_99 rfl ?_
    exact z_sub [0, 1] rfl (w_X2_addRule_100 x hl hret hnm htab a0 a1 (0 : Int32))
def s_X2_addRule_13 (E : zE) (a0 : Option Nat) (a1 : Option Nat) (b0 : Int32) : zM := zC (zRv a1 [(31, fun b => s_X25_unsafeVariable E (some b))]) zThr (zKI (fun v15 => zC (s_X1_refuseIf E b0 (1 : Int32) v15) zThr (zKV (zGetR a1 31 3 (fun v23 => zC (zRv a0 [(26, fun b => s_X2_sameRule E (some b) v23)]) zThr (zKI (fun v26 => if v26 = (-1 : Int32) then (s_X2_addRule_38 E a0 a1 (0 : Int32)) else (s_X2_addRule_38 E a0 a1 (1 : Int32)))))))))
theorem w_X2_addRule_13 (x : zCx p l R s m args meth c E D tA cX2_addRule 2 yX2_addRule.cls 16) (hl : l.stackTraces = false) (hret : meth.sig.returnType = (Option.some Jvm.ClassFile.FieldType.int)) (hnm : meth.name = yX2_addRule.name) (htab : ∀ z ∈ c.exceptionTable.toList, False) (a0 : Option Nat) (a1 : Option Nat) (b0 : Int32) : zW p l e R s m args below meth c E D tA 2 k0 (s_X2_addRule_13 E a0 a1 b0) [(0, zP a0), (1, zP a1)] 13 [zI b0] := by
  unfold s_X2_addRule_13
  refine z_iconst (pc := 13) x (v := (1 : Int32)) dX2_addRule_13 rfl ?_
  refine z_aload_n (pc := 14) x 1 dX2_addRule_14 rfl rfl ?_
  refine z_call (pc := 15) (z_canV (pc := 15) (As := []) (st := [zI (1 : Int32), zI b0]) x (ci := 31) rfl (fun b => m_X25_unsafeVariable hl (some b)) q2614 q2615 (x.2.2.2.2.1 _ q2616) q164 q2617 n_X25_unsafeVariable ⟨by decide, by decide⟩ (Nat.le_of_ble_eq_true rfl) dX2_addRule_15) (zv_I fun v15 => ?_) (fun q => zx_thr x (fun z hz => (htab z hz).elim) q)
  refine z_call (pc := 18) (z_canSN (pc := 18) (As := [zI b0, zI (1 : Int32), zI v15]) (st := []) x (m_X1_refuseIf hl b0 (1 : Int32) v15) q2618 q2619 q108 q2620 n_X1_refuseIf ⟨by decide, by decide⟩ (Nat.le_of_ble_eq_true rfl) dX2_addRule_18) (zv_V ?_) (fun q => zx_thr x (fun z hz => (htab z hz).elim) q)
  refine z_aload_n (pc := 21) x 0 dX2_addRule_21 rfl rfl ?_
  refine z_aload_n (pc := 22) x 1 dX2_addRule_22 rfl rfl ?_
  refine z_getN (pc := 23) (fun _ _ h => zAsR_eq h) x in_X25 (ci := 31) rfl (k := 3) (by decide) q2512 (fun _ h => h) dX2_addRule_23 fun v23 => ?_
  refine z_call (pc := 26) (z_canV (pc := 26) (As := [zP v23]) (st := []) x (ci := 26) rfl (fun b => m_X2_sameRule hl (some b) v23) q2643 q2645 (z_selP x (ci := 26) rfl (by decide) (zNi_inst x q176) q2644 q2645) q109 q2646 n_X2_sameRule ⟨by decide, by decide⟩ (Nat.le_of_ble_eq_true rfl) dX2_addRule_26) (zv_I fun v26 => ?_) (fun q => zx_thr x (fun z hz => (htab z hz).elim) q)
  refine z_iconst (pc := 29) x (v := (-1 : Int32)) dX2_addRule_29 rfl ?_
  refine z_icmp_eq (pc := 30) (tgt := 37) x dX2_addRule_30 rfl (fun _ => ?_) (fun _ => ?_)
  · refine z_iconst (pc := 37) x (v := (0 : Int32)) dX2_addRule_37 rfl ?_
    exact z_sub [0, 1] rfl (w_X2_addRule_38 x hl hret hnm htab a0 a1 (0 : Int32))
  · refine z_iconst (pc := 33) x (v := (1 : Int32)) dX2_addRule_33 rfl ?_
    refine z_goto (pc := 34) (tgt := 38) x dX2_addRule_34 rfl ?_
    exact z_sub [0, 1] rfl (w_X2_addRule_38 x hl hret hnm htab a0 a1 (1 : Int32))
def s_X2_addRule (E : zE) (a0 : Option Nat) (a1 : Option Nat) : zM := zC (zRv a1 [(31, fun b => s_X25_unsafeVariable E (some b))]) zThr (zKI (fun v1 => if v1 = (-1 : Int32) then (s_X2_addRule_13 E a0 a1 (0 : Int32)) else (s_X2_addRule_13 E a0 a1 (1 : Int32))))
theorem m_X2_addRule {l : Launch} {E : zE} {D : va_G} {tA : Nat → ClassId} (hl : l.stackTraces = false) (a0 : Option Nat) (a1 : Option Nat) : zMet l E D tA yX2_addRule (ws_ yX2_addRule cX2_addRule 2 (Option.some Jvm.ClassFile.FieldType.int)) 16 (s_X2_addRule E a0 a1) [zP a0, zP a1] := by
  refine z_met hl (by decide +kernel) (by rw [zSl_len]; exact (Nat.le_of_ble_eq_true rfl)) fun p e R s m args below meth c k0 x hret hnm htab => ?_
  refine z_lv [(0, zP a0), (1, zP a1)] rfl ?_
  unfold s_X2_addRule
  refine z_aload_n (pc := 0) x 1 dX2_addRule_0 rfl rfl ?_
  refine z_call (pc := 1) (z_canV (pc := 1) (As := []) (st := []) x (ci := 31) rfl (fun b => m_X25_unsafeVariable hl (some b)) q2614 q2615 (x.2.2.2.2.1 _ q2616) q164 q2617 n_X25_unsafeVariable ⟨by decide, by decide⟩ (Nat.le_of_ble_eq_true rfl) dX2_addRule_1) (zv_I fun v1 => ?_) (fun q => zx_thr x (fun z hz => (htab z hz).elim) q)
  refine z_iconst (pc := 4) x (v := (-1 : Int32)) dX2_addRule_4 rfl ?_
  refine z_icmp_eq (pc := 5) (tgt := 12) x dX2_addRule_5 rfl (fun _ => ?_) (fun _ => ?_)
  · refine z_iconst (pc := 12) x (v := (0 : Int32)) dX2_addRule_12 rfl ?_
    exact z_sub [0, 1] rfl (w_X2_addRule_13 x hl hret hnm htab a0 a1 (0 : Int32))
  · refine z_iconst (pc := 8) x (v := (1 : Int32)) dX2_addRule_8 rfl ?_
    refine z_goto (pc := 9) (tgt := 13) x dX2_addRule_9 rfl ?_
    exact z_sub [0, 1] rfl (w_X2_addRule_13 x hl hret hnm htab a0 a1 (1 : Int32))
/-! X22_execute -/
def s_X22_execute_83 (E : zE) (a0 : Option Nat) (a1 : Option Nat) (a3 : Int32) : zM := if a3 = (0 : Int32) then (zGetI a0 28 1 (fun v114 => zGetI a0 28 2 (fun v118 => zGetI a0 28 3 (fun v122 => zC (zRv a1 [(26, fun b => s_X2_addFact E (some b) v114 v118 v122)]) zThr (zKI (fun v125 => zRet (some (.int v125)))))))) else (if a3 = (1 : Int32) then (zGetI a0 28 1 (fun v131 => zGetI a0 28 2 (fun v135 => zGetI a0 28 3 (fun v139 => zC (zRv a1 [(26, fun b => s_X2_takeFact E (some b) v131 v135 v139)]) zThr (zKI (fun v142 => zRet (some (.int v142)))))))) else (if a3 = (2 : Int32) then (zGetR a0 28 4 (fun v148 => zC (zRv a1 [(26, fun b => s_X2_addRule E (some b) v148)]) zThr (zKI (fun v151 => zRet (some (.int v151)))))) else (zGetI a0 28 2 (fun v157 => zC (zRv a1 [(26, fun b => s_X2_dropRule E (some b) v157)]) zThr (zKI (fun v160 => zRet (some (.int v160))))))))
theorem w_X22_execute_83 (x : zCx p l R s m args meth c E D tA cX22_execute 4 yX22_execute.cls 75) (hl : l.stackTraces = false) (hret : meth.sig.returnType = (Option.some Jvm.ClassFile.FieldType.int)) (hnm : meth.name = yX22_execute.name) (htab : ∀ z ∈ c.exceptionTable.toList, False) (a0 : Option Nat) (a1 : Option Nat) (a3 : Int32) : zW p l e R s m args below meth c E D tA 4 k0 (s_X22_execute_83 E a0 a1 a3) [(0, zP a0), (1, zP a1), (3, zI a3)] 83 [] := by
  unfold s_X22_execute_83
  refine z_iload_n (pc := 83) x 2 dX22_execute_83 rfl rfl ?_
  refine z_ite (fun e84_1 => ?_) (fun e84_1 => ?_)
  · refine z_tabIn (pc := 84) (tgt := 112) x (28) dX22_execute_84 e84_1 (by decide) (by decide) rfl rfl ?_
    refine z_aload_n (pc := 112) x 1 dX22_execute_112 rfl rfl ?_
    refine z_aload_n (pc := 113) x 0 dX22_execute_113 rfl rfl ?_
    refine z_get (pc := 114) (fun _ _ h => zAsI_eq h) x in_X22 (ci := 28) rfl (k := 1) (by decide) q2317 (fun _ h => h) dX22_execute_114 fun v114 => ?_
    refine z_aload_n (pc := 117) x 0 dX22_execute_117 rfl rfl ?_
    refine z_get (pc := 118) (fun _ _ h => zAsI_eq h) x in_X22 (ci := 28) rfl (k := 2) (by decide) q2318 (fun _ h => h) dX22_execute_118 fun v118 => ?_
    refine z_aload_n (pc := 121) x 0 dX22_execute_121 rfl rfl ?_
    refine z_get (pc := 122) (fun _ _ h => zAsI_eq h) x in_X22 (ci := 28) rfl (k := 3) (by decide) q2319 (fun _ h => h) dX22_execute_122 fun v122 => ?_
    refine z_call (pc := 125) (z_canV (pc := 125) (As := [zI v114, zI v118, zI v122]) (st := []) x (ci := 26) rfl (fun b => m_X2_addFact hl (some b) v114 v118 v122) q2608 q1513 (x.2.2.2.2.1 _ q1514) q109 q1515 n_X2_addFact ⟨by decide, by decide⟩ (Nat.le_of_ble_eq_true rfl) dX22_execute_125) (zv_I fun v125 => ?_) (fun q => zx_thr x (fun z hz => (htab z hz).elim) q)
    exact z_iret (pc := 128) x hret dX22_execute_128
  refine z_ite (fun e84_2 => ?_) (fun e84_2 => ?_)
  · refine z_tabIn (pc := 84) (tgt := 129) x (45) dX22_execute_84 e84_2 (by decide) (by decide) rfl rfl ?_
    refine z_aload_n (pc := 129) x 1 dX22_execute_129 rfl rfl ?_
    refine z_aload_n (pc := 130) x 0 dX22_execute_130 rfl rfl ?_
    refine z_get (pc := 131) (fun _ _ h => zAsI_eq h) x in_X22 (ci := 28) rfl (k := 1) (by decide) q2317 (fun _ h => h) dX22_execute_131 fun v131 => ?_
    refine z_aload_n (pc := 134) x 0 dX22_execute_134 rfl rfl ?_
    refine z_get (pc := 135) (fun _ _ h => zAsI_eq h) x in_X22 (ci := 28) rfl (k := 2) (by decide) q2318 (fun _ h => h) dX22_execute_135 fun v135 => ?_
    refine z_aload_n (pc := 138) x 0 dX22_execute_138 rfl rfl ?_
    refine z_get (pc := 139) (fun _ _ h => zAsI_eq h) x in_X22 (ci := 28) rfl (k := 3) (by decide) q2319 (fun _ h => h) dX22_execute_139 fun v139 => ?_
    refine z_call (pc := 142) (z_canV (pc := 142) (As := [zI v131, zI v135, zI v139]) (st := []) x (ci := 26) rfl (fun b => m_X2_takeFact hl (some b) v131 v135 v139) q2609 q1648 (x.2.2.2.2.1 _ q1649) q109 q1650 n_X2_takeFact ⟨by decide, by decide⟩ (Nat.le_of_ble_eq_true rfl) dX22_execute_142) (zv_I fun v142 => ?_) (fun q => zx_thr x (fun z hz => (htab z hz).elim) q)
    exact z_iret (pc := 145) x hret dX22_execute_145
  refine z_ite (fun e84_3 => ?_) (fun e84_3 => ?_)
  · refine z_tabIn (pc := 84) (tgt := 146) x (62) dX22_execute_84 e84_3 (by decide) (by decide) rfl rfl ?_
    refine z_aload_n (pc := 146) x 1 dX22_execute_146 rfl rfl ?_
    refine z_aload_n (pc := 147) x 0 dX22_execute_147 rfl rfl ?_
    refine z_get (pc := 148) (fun _ _ h => zAsR_eq h) x in_X22 (ci := 28) rfl (k := 4) (by decide) q2320 (fun _ h => h) dX22_execute_148 fun v148 => ?_
    refine z_call (pc := 151) (z_canV (pc := 151) (As := [zP v148]) (st := []) x (ci := 26) rfl (fun b => m_X2_addRule hl (some b) v148) q2610 q2611 (x.2.2.2.2.1 _ q2612) q109 q2613 n_X2_addRule ⟨by decide, by decide⟩ (Nat.le_of_ble_eq_true rfl) dX22_execute_151) (zv_I fun v151 => ?_) (fun q => zx_thr x (fun z hz => (htab z hz).elim) q)
    exact z_iret (pc := 154) x hret dX22_execute_154
  refine z_tabOut (pc := 84) (tgt := 155) x dX22_execute_84 (by have f1 := lv_neT (a := 0) e84_1 rfl; have f2 := lv_neT (a := 1) e84_2 rfl; have f3 := lv_neT (a := 2) e84_3 rfl; omega) rfl ?_
  refine z_aload_n (pc := 155) x 1 dX22_execute_155 rfl rfl ?_
  refine z_aload_n (pc := 156) x 0 dX22_execute_156 rfl rfl ?_
  refine z_get (pc := 157) (fun _ _ h => zAsI_eq h) x in_X22 (ci := 28) rfl (k := 2) (by decide) q2318 (fun _ h => h) dX22_execute_157 fun v157 => ?_
  refine z_call (pc := 160) (z_canV (pc := 160) (As := [zI v157]) (st := []) x (ci := 26) rfl (fun b => m_X2_dropRule hl (some b) v157) q2674 q1697 (x.2.2.2.2.1 _ q1698) q109 q1699 n_X2_dropRule ⟨by decide, by decide⟩ (Nat.le_of_ble_eq_true rfl) dX22_execute_160) (zv_I fun v160 => ?_) (fun q => zx_thr x (fun z hz => (htab z hz).elim) q)
  exact z_iret (pc := 163) x hret dX22_execute_163
def s_X22_execute (E : zE) (a0 : Option Nat) (a1 : Option Nat) : zM := zGetR a0 28 0 (fun v1 => zC (zRv v1 [(15, fun b => s_J6_hashCode E (some b))]) zThr (zKI (fun v8 => if v8 = (3135084 : Int32) then (zC (zRv v1 [(15, fun b => s_J6_equals E (some b) (some (E 46)))]) zThr (zKI (fun v47 => if v47 = 0 then (s_X22_execute_83 E a0 a1 (-1 : Int32)) else (s_X22_execute_83 E a0 a1 (0 : Int32))))) else (if v8 = (3512060 : Int32) then (zC (zRv v1 [(15, fun b => s_J6_equals E (some b) (some (E 48)))]) zThr (zKI (fun v75 => if v75 = 0 then (s_X22_execute_83 E a0 a1 (-1 : Int32)) else (s_X22_execute_83 E a0 a1 (2 : Int32))))) else (if v8 = (3552391 : Int32) then (zC (zRv v1 [(15, fun b => s_J6_equals E (some b) (some (E 47)))]) zThr (zKI (fun v61 => if v61 = 0 then (s_X22_execute_83 E a0 a1 (-1 : Int32)) else (s_X22_execute_83 E a0 a1 (1 : Int32))))) else (s_X22_execute_83 E a0 a1 (-1 : Int32)))))))
theorem m_X22_execute {l : Launch} {E : zE} {D : va_G} {tA : Nat → ClassId} (hl : l.stackTraces = false) (a0 : Option Nat) (a1 : Option Nat) : zMet l E D tA yX22_execute (ws_ yX22_execute cX22_execute 4 (Option.some Jvm.ClassFile.FieldType.int)) 75 (s_X22_execute E a0 a1) [zP a0, zP a1] := by
  refine z_met hl (by decide +kernel) (by rw [zSl_len]; exact (Nat.le_of_ble_eq_true rfl)) fun p e R s m args below meth c k0 x hret hnm htab => ?_
  refine z_lv [(0, zP a0), (1, zP a1)] rfl ?_
  unfold s_X22_execute
  refine z_aload_n (pc := 0) x 0 dX22_execute_0 rfl rfl ?_
  refine z_get (pc := 1) (fun _ _ h => zAsR_eq h) x in_X22 (ci := 28) rfl (k := 0) (by decide) q2316 (fun _ h => h) dX22_execute_1 fun v1 => ?_
  refine z_astore_n (pc := 4) (lv' := [(2, zP v1), (0, zP a0), (1, zP a1)]) x dX22_execute_4 rfl (Nat.le_of_ble_eq_true rfl) rfl ?_
  refine z_iconst (pc := 5) x (v := (-1 : Int32)) dX22_execute_5 rfl ?_
  refine z_istore_n (pc := 6) (lv' := [(3, zI (-1 : Int32)), (2, zP v1), (0, zP a0), (1, zP a1)]) x dX22_execute_6 rfl (Nat.le_of_ble_eq_true rfl) rfl ?_
  refine z_aload_n (pc := 7) x 1 dX22_execute_7 rfl rfl ?_
  refine z_call (pc := 8) (z_canV (pc := 8) (As := []) (st := []) x (ci := 15) rfl (fun b => m_J6_hashCode hl (some b)) q2540 q2541 (x.2.2.2.2.1 _ q2542) q119 q2543 n_J6_hashCode ⟨by decide, by decide⟩ (Nat.le_of_ble_eq_true rfl) dX22_execute_8) (zv_I fun v8 => ?_) (fun q => zx_thr x (fun z hz => (htab z hz).elim) q)
  refine z_ite (fun e11_1 => ?_) (fun e11_1 => ?_)
  · refine z_lookup (pc := 11) (tgt := 44) x (33) dX22_execute_11 (by decide) (by rw [e11_1]; rfl) rfl ?_
    refine z_aload_n (pc := 44) x 1 dX22_execute_44 rfl rfl ?_
    refine z_ldcS (pc := 45) x (k := 46) (List.mem_of_getElem? (i := 30) rfl) dX22_execute_45 ?_
    refine z_call (pc := 47) (z_canV (pc := 47) (As := [zP (some (E 46))]) (st := []) x (ci := 15) rfl (fun b => m_J6_equals hl (some b) (some (E 46))) q2598 q2599 (x.2.2.2.2.1 _ q2600) q119 q2601 n_J6_equals ⟨by decide, by decide⟩ (Nat.le_of_ble_eq_true rfl) dX22_execute_47) (zv_I fun v47 => ?_) (fun q => zx_thr x (fun z hz => (htab z hz).elim) q)
    refine z_if_eq (pc := 50) (tgt := 83) x dX22_execute_50 rfl (fun _ => ?_) (fun _ => ?_)
    · exact z_sub [2, 3, 0] rfl (w_X22_execute_83 x hl hret hnm htab a0 a1 (-1 : Int32))
    · refine z_iconst (pc := 53) x (v := (0 : Int32)) dX22_execute_53 rfl ?_
      refine z_istore_n (pc := 54) (lv' := [(3, zI (0 : Int32)), (2, zP v1), (0, zP a0), (1, zP a1)]) x dX22_execute_54 rfl (Nat.le_of_ble_eq_true rfl) rfl ?_
      refine z_goto (pc := 55) (tgt := 83) x dX22_execute_55 rfl ?_
      exact z_sub [2, 3, 0] rfl (w_X22_execute_83 x hl hret hnm htab a0 a1 (0 : Int32))
  refine z_ite (fun e11_2 => ?_) (fun e11_2 => ?_)
  · refine z_lookup (pc := 11) (tgt := 72) x (61) dX22_execute_11 (by decide) (by rw [e11_2]; rfl) rfl ?_
    refine z_aload_n (pc := 72) x 1 dX22_execute_72 rfl rfl ?_
    refine z_ldcS (pc := 73) x (k := 48) (List.mem_of_getElem? (i := 32) rfl) dX22_execute_73 ?_
    refine z_call (pc := 75) (z_canV (pc := 75) (As := [zP (some (E 48))]) (st := []) x (ci := 15) rfl (fun b => m_J6_equals hl (some b) (some (E 48))) q2598 q2599 (x.2.2.2.2.1 _ q2600) q119 q2601 n_J6_equals ⟨by decide, by decide⟩ (Nat.le_of_ble_eq_true rfl) dX22_execute_75) (zv_I fun v75 => ?_) (fun q => zx_thr x (fun z hz => (htab z hz).elim) q)
    refine z_if_eq (pc := 78) (tgt := 83) x dX22_execute_78 rfl (fun _ => ?_) (fun _ => ?_)
    · exact z_sub [2, 3, 0] rfl (w_X22_execute_83 x hl hret hnm htab a0 a1 (-1 : Int32))
    · refine z_iconst (pc := 81) x (v := (2 : Int32)) dX22_execute_81 rfl ?_
      refine z_istore_n (pc := 82) (lv' := [(3, zI (2 : Int32)), (2, zP v1), (0, zP a0), (1, zP a1)]) x dX22_execute_82 rfl (Nat.le_of_ble_eq_true rfl) rfl ?_
      exact z_sub [2, 3, 0] rfl (w_X22_execute_83 x hl hret hnm htab a0 a1 (2 : Int32))
  refine z_ite (fun e11_3 => ?_) (fun e11_3 => ?_)
  · refine z_lookup (pc := 11) (tgt := 58) x (47) dX22_execute_11 (by decide) (by rw [e11_3]; rfl) rfl ?_
    refine z_aload_n (pc := 58) x 1 dX22_execute_58 rfl rfl ?_
    refine z_ldcS (pc := 59) x (k := 47) (List.mem_of_getElem? (i := 31) rfl) dX22_execute_59 ?_
    refine z_call (pc := 61) (z_canV (pc := 61) (As := [zP (some (E 47))]) (st := []) x (ci := 15) rfl (fun b => m_J6_equals hl (some b) (some (E 47))) q2598 q2599 (x.2.2.2.2.1 _ q2600) q119 q2601 n_J6_equals ⟨by decide, by decide⟩ (Nat.le_of_ble_eq_true rfl) dX22_execute_61) (zv_I fun v61 => ?_) (fun q => zx_thr x (fun z hz => (htab z hz).elim) q)
    refine z_if_eq (pc := 64) (tgt := 83) x dX22_execute_64 rfl (fun _ => ?_) (fun _ => ?_)
    · exact z_sub [2, 3, 0] rfl (w_X22_execute_83 x hl hret hnm htab a0 a1 (-1 : Int32))
    · refine z_iconst (pc := 67) x (v := (1 : Int32)) dX22_execute_67 rfl ?_
      refine z_istore_n (pc := 68) (lv' := [(3, zI (1 : Int32)), (2, zP v1), (0, zP a0), (1, zP a1)]) x dX22_execute_68 rfl (Nat.le_of_ble_eq_true rfl) rfl ?_
      refine z_goto (pc := 69) (tgt := 83) x dX22_execute_69 rfl ?_
      exact z_sub [2, 3, 0] rfl (w_X22_execute_83 x hl hret hnm htab a0 a1 (1 : Int32))
  refine z_lookup (pc := 11) (tgt := 83) x (72) dX22_execute_11 (by decide) (by show Op.lookupswitch.offset [(3135084, 33), (3512060, 61), (3552391, 47)] _ _ = _; rw [lv_osw (a := 3135084) e11_1 rfl, lv_osw (a := 3512060) e11_2 rfl, lv_osw (a := 3552391) e11_3 rfl]; rfl) rfl ?_
  exact z_sub [2, 3, 0] rfl (w_X22_execute_83 x hl hret hnm htab a0 a1 (-1 : Int32))
/-! X1_run -/
def s_X1_run_102 (E : zE) (a0 : Option Nat) (a2 : Option Nat) (a3 : Int32) (a4 : Int32) (b0 : Option Nat) (b1 : Int32) : zM := zSet E b0 16 7 (zVal (zI b1)) (zC (s_X1_requireSupport E a4) zThr (zKV (zC (zRv a0 [(16, fun b => s_X1_replaceLogic E (some b) a2)]) zThr (zKV (zRet (some (.int a3)))))))
theorem w_X1_run_102 (x : zCx p l R s m args meth c E D tA cX1_run 8 yX1_run.cls 76) (hl : l.stackTraces = false) (hret : meth.sig.returnType = (Option.some Jvm.ClassFile.FieldType.int)) (hnm : meth.name = yX1_run.name) (htab : c.exceptionTable.toList = tableOf [(22, 69, 72, 47), (22, 69, 83, 7), (22, 69, 83, 22), (22, 69, 83, 16), (22, 69, 83, 19)]) (a0 : Option Nat) (a2 : Option Nat) (a3 : Int32) (a4 : Int32) (b0 : Option Nat) (b1 : Int32) : zW p l e R s m args below meth c E D tA 8 k0 (s_X1_run_102 E a0 a2 a3 a4 b0 b1) [(0, zP a0), (2, zP a2), (3, zI a3), (4, zI a4)] 102 [zI b1, zP b0] := by
  unfold s_X1_run_102
  refine z_set (pc := 102) (v := zI b1) x in_X1 tyX1 tyX1_ok nmX1 (ci := 16) rfl (k := 7) (by decide) q328 (fun _ h => h) rfl rfl rfl dX1_run_102 ?_
  refine z_iload (pc := 105) x 3 dX1_run_105 rfl ?_
  refine z_call (pc := 107) (z_canS (pc := 107) (As := [zI a4]) (st := []) x (m_X1_requireSupport hl a4) q2675 q1535 q108 q1536 n_X1_requireSupport ⟨by decide, by decide⟩ (Nat.le_of_ble_eq_true rfl) dX1_run_107) (zv_V ?_) (fun q => zx_thr x (by rw [htab]; decide +kernel) q)
  refine z_aload_n (pc := 110) x 0 dX1_run_110 rfl rfl ?_
  refine z_aload_n (pc := 111) x 1 dX1_run_111 rfl rfl ?_
  refine z_call (pc := 112) (z_canV (pc := 112) (As := [zP a2]) (st := []) x (ci := 16) rfl (fun b => m_X1_replaceLogic hl (some b) a2) q1575 q1577 (z_selP x (ci := 16) rfl (by decide) (zNi_inst x q168) q1576 q1577) q108 q1578 n_X1_replaceLogic ⟨by decide, by decide⟩ (Nat.le_of_ble_eq_true rfl) dX1_run_112) (zv_V ?_) (fun q => zx_thr x (by rw [htab]; decide +kernel) q)
  refine z_iload_n (pc := 115) x 2 dX1_run_115 rfl rfl ?_
  exact z_iret (pc := 116) x hret dX1_run_116
def s_X1_run_88 (E : zE) (a0 : Option Nat) (a2 : Option Nat) (a3 : Int32) (a4 : Int32) : zM := if a4 = 0 then (s_X1_run_102 E a0 a2 a3 a4 a0 a3) else (zGetI a0 16 7 (fun v95 => s_X1_run_102 E a0 a2 a3 a4 a0 v95))
theorem w_X1_run_88 (x : zCx p l R s m args meth c E D tA cX1_run 8 yX1_run.cls 76) (hl : l.stackTraces = false) (hret : meth.sig.returnType = (Option.some Jvm.ClassFile.FieldType.int)) (hnm : meth.name = yX1_run.name) (htab : c.exceptionTable.toList = tableOf [(22, 69, 72, 47), (22, 69, 83, 7), (22, 69, 83, 22), (22, 69, 83, 16), (22, 69, 83, 19)]) (a0 : Option Nat) (a2 : Option Nat) (a3 : Int32) (a4 : Int32) : zW p l e R s m args below meth c E D tA 8 k0 (s_X1_run_88 E a0 a2 a3 a4) [(0, zP a0), (2, zP a2), (3, zI a3), (4, zI a4)] 88 [] := by
  unfold s_X1_run_88
  refine z_aload_n (pc := 88) x 0 dX1_run_88 rfl rfl ?_
  refine z_iload (pc := 89) x 3 dX1_run_89 rfl ?_
  refine z_if_eq (pc := 91) (tgt := 101) x dX1_run_91 rfl (fun _ => ?_) (fun _ => ?_)
  · refine z_iload_n (pc := 101) x 2 dX1_run_101 rfl rfl ?_
    exact z_sub [0, 1, 2, 3] rfl (w_X1_run_102 x hl hret hnm htab a0 a2 a3 a4 a0 a3)
  · refine z_aload_n (pc := 94) x 0 dX1_run_94 rfl rfl ?_
    refine z_get (pc := 95) (fun _ _ h => zAsI_eq h) x in_X1 (ci := 16) rfl (k := 7) (by decide) q328 (fun _ h => h) dX1_run_95 fun v95 => ?_
    refine z_goto (pc := 98) (tgt := 102) x dX1_run_98 rfl ?_
    exact z_sub [0, 1, 2, 3] rfl (w_X1_run_102 x hl hret hnm htab a0 a2 a3 a4 a0 v95)
def s_X1_run_72 (E : zE) (a0 : Option Nat) (a2 : Option Nat) (a3 : Int32) (a4 : Int32) (b0 : Option Nat) : zM := zSet E a0 16 2 (zVal (zP b0)) (s_X1_run_88 E a0 a2 a3 a4)
theorem w_X1_run_72 (x : zCx p l R s m args meth c E D tA cX1_run 8 yX1_run.cls 76) (hl : l.stackTraces = false) (hret : meth.sig.returnType = (Option.some Jvm.ClassFile.FieldType.int)) (hnm : meth.name = yX1_run.name) (htab : c.exceptionTable.toList = tableOf [(22, 69, 72, 47), (22, 69, 83, 7), (22, 69, 83, 22), (22, 69, 83, 16), (22, 69, 83, 19)]) (a0 : Option Nat) (a2 : Option Nat) (a3 : Int32) (a4 : Int32) (b0 : Option Nat) : zW p l e R s m args below meth c E D tA 8 k0 (s_X1_run_72 E a0 a2 a3 a4 b0) [(0, zP a0), (2, zP a2), (3, zI a3), (4, zI a4)] 72 [zP b0] := by
  unfold s_X1_run_72
  refine z_astore (pc := 72) (lv' := [(5, zP b0), (0, zP a0), (2, zP a2), (3, zI a3), (4, zI a4)]) x dX1_run_72 (Nat.le_of_ble_eq_true rfl) rfl ?_
  refine z_aload_n (pc := 74) x 1 dX1_run_74 rfl rfl ?_
  refine z_aload (pc := 75) x 0 dX1_run_75 rfl ?_
  refine z_set (pc := 77) (v := zP b0) x in_X1 tyX1 tyX1_ok nmX1 (ci := 16) rfl (k := 2) (by decide) q322 (fun _ h => h) rfl (zfitR rfl _).1 (zfitR rfl _).2 dX1_run_77 ?_
  refine z_goto (pc := 80) (tgt := 88) x dX1_run_80 rfl ?_
  exact z_sub [1, 2, 3, 4] rfl (w_X1_run_88 x hl hret hnm htab a0 a2 a3 a4)
def s_X1_run_83 (E : zE) (a0 : Option Nat) (a2 : Option Nat) (a3 : Int32) (b0 : Option Nat) : zM := s_X1_run_88 E a0 a2 a3 (0 : Int32)
theorem w_X1_run_83 (x : zCx p l R s m args meth c E D tA cX1_run 8 yX1_run.cls 76) (hl : l.stackTraces = false) (hret : meth.sig.returnType = (Option.some Jvm.ClassFile.FieldType.int)) (hnm : meth.name = yX1_run.name) (htab : c.exceptionTable.toList = tableOf [(22, 69, 72, 47), (22, 69, 83, 7), (22, 69, 83, 22), (22, 69, 83, 16), (22, 69, 83, 19)]) (a0 : Option Nat) (a2 : Option Nat) (a3 : Int32) (b0 : Option Nat) : zW p l e R s m args below meth c E D tA 8 k0 (s_X1_run_83 E a0 a2 a3 b0) [(0, zP a0), (2, zP a2), (3, zI a3)] 83 [zP b0] := by
  unfold s_X1_run_83
  refine z_astore (pc := 83) (lv' := [(5, zP b0), (0, zP a0), (2, zP a2), (3, zI a3)]) x dX1_run_83 (Nat.le_of_ble_eq_true rfl) rfl ?_
  refine z_iconst (pc := 85) x (v := (0 : Int32)) dX1_run_85 rfl ?_
  refine z_istore (pc := 86) (lv' := [(4, zI (0 : Int32)), (5, zP b0), (0, zP a0), (2, zP a2), (3, zI a3)]) x dX1_run_86 (Nat.le_of_ble_eq_true rfl) rfl ?_
  exact z_sub [2, 3, 4, 0] rfl (w_X1_run_88 x hl hret hnm htab a0 a2 a3 (0 : Int32))
def s_X1_run_30 (E : zE) : Nat → Option Nat → Option Nat → Int32 → Int32 → Option Nat → zM
  | 0, _, _, _, _, _ => zFail
  | n + 1, a0, a2, a3, a4, a5 => zC (zRv a5 [(11, fun b => s_J22_hasNext E (some b))]) (fun q => zCat1 q [(13, s_X1_run_72 E a0 a2 a3 a4 (some q)), (8, s_X1_run_83 E a0 a2 a3 (some q)), (2, s_X1_run_83 E a0 a2 a3 (some q)), (5, s_X1_run_83 E a0 a2 a3 (some q)), (6, s_X1_run_83 E a0 a2 a3 (some q))]) (zKI (fun v32 => if v32 = 0 then (s_X1_run_88 E a0 a2 a3 (1 : Int32)) else (zC (zRv a5 [(11, fun b => s_J22_next E (some b))]) (fun q => zCat1 q [(13, s_X1_run_72 E a0 a2 a3 a4 (some q)), (8, s_X1_run_83 E a0 a2 a3 (some q)), (2, s_X1_run_83 E a0 a2 a3 (some q)), (5, s_X1_run_83 E a0 a2 a3 (some q)), (6, s_X1_run_83 E a0 a2 a3 (some q))]) (zKR (fun v42 => zCsS 28 v42 (zC (zRv v42 [(28, fun b => s_X22_execute E (some b) a2)]) (fun q => zCat1 q [(13, s_X1_run_72 E a0 a2 a3 a4 (some q)), (8, s_X1_run_83 E a0 a2 a3 (some q)), (2, s_X1_run_83 E a0 a2 a3 (some q)), (5, s_X1_run_83 E a0 a2 a3 (some q)), (6, s_X1_run_83 E a0 a2 a3 (some q))]) (zKI (fun v55 => (s_X1_run_30 E n) a0 a2 (a3 + (1 : Int32)) a4 a5))))))))
theorem w_X1_run_30 (x : zCx p l R s m args meth c E D tA cX1_run 8 yX1_run.cls 76) (hl : l.stackTraces = false) (hret : meth.sig.returnType = (Option.some Jvm.ClassFile.FieldType.int)) (hnm : meth.name = yX1_run.name) (htab : c.exceptionTable.toList = tableOf [(22, 69, 72, 47), (22, 69, 83, 7), (22, 69, 83, 22), (22, 69, 83, 16), (22, 69, 83, 19)]) : ∀ (n : Nat) (a0 : Option Nat) (a2 : Option Nat) (a3 : Int32) (a4 : Int32) (a5 : Option Nat), zW p l e R s m args below meth c E D tA 8 k0 (s_X1_run_30 E n a0 a2 a3 a4 a5) [(0, zP a0), (2, zP a2), (3, zI a3), (4, zI a4), (5, zP a5)] 30 [] := by
  intro n
  induction n with
  | zero => intro a0 a2 a3 a4 a5; exact z_fail
  | succ n h30 =>
    intro a0 a2 a3 a4 a5
    rw [s_X1_run_30]
    refine z_aload (pc := 30) x 4 dX1_run_30 rfl ?_
    refine z_call (pc := 32) (z_canIF (pc := 32) (As := []) (st := []) (x9 := ⟨"java/util/Iterator", "hasNext", "()Z"⟩) x (ci := 11) rfl (fun b => m_J22_hasNext hl (some b)) q2532 q413 q412 (by decide) q415 q417 q418 q416 q414 q139 q419 nx_java_util_Iterator_hasNext___Z ⟨by decide, by decide⟩ (Nat.le_of_ble_eq_true rfl) dX1_run_32) (zv_I fun v32 => ?_) (fun q => zx_cat x [(13, s_X1_run_72 E a0 a2 a3 a4 (some q), ⟨22, 69, 72, 47⟩), (8, s_X1_run_83 E a0 a2 a3 (some q), ⟨22, 69, 83, 7⟩), (2, s_X1_run_83 E a0 a2 a3 (some q), ⟨22, 69, 83, 22⟩), (5, s_X1_run_83 E a0 a2 a3 (some q), ⟨22, 69, 83, 16⟩), (6, s_X1_run_83 E a0 a2 a3 (some q), ⟨22, 69, 83, 19⟩)] htab (List.forall_mem_cons.mpr ⟨⟨rfl, (show (47 : Nat) ≠ 0 by decide), q2156, z_sub [0, 1, 2, 3] rfl (w_X1_run_72 x hl hret hnm htab a0 a2 a3 a4 (some q))⟩, (List.forall_mem_cons.mpr ⟨⟨rfl, (show (7 : Nat) ≠ 0 by decide), q1705, z_sub [0, 1, 2] rfl (w_X1_run_83 x hl hret hnm htab a0 a2 a3 (some q))⟩, (List.forall_mem_cons.mpr ⟨⟨rfl, (show (22 : Nat) ≠ 0 by decide), q1537, z_sub [0, 1, 2] rfl (w_X1_run_83 x hl hret hnm htab a0 a2 a3 (some q))⟩, (List.forall_mem_cons.mpr ⟨⟨rfl, (show (16 : Nat) ≠ 0 by decide), q1555, z_sub [0, 1, 2] rfl (w_X1_run_83 x hl hret hnm htab a0 a2 a3 (some q))⟩, (List.forall_mem_cons.mpr ⟨⟨rfl, (show (19 : Nat) ≠ 0 by decide), q1658, z_sub [0, 1, 2] rfl (w_X1_run_83 x hl hret hnm htab a0 a2 a3 (some q))⟩, (fun _ hj => nomatch hj)⟩)⟩)⟩)⟩)⟩))
    refine z_if_eq (pc := 37) (tgt := 66) x dX1_run_37 rfl (fun _ => ?_) (fun _ => ?_)
    · refine z_iconst (pc := 66) x (v := (1 : Int32)) dX1_run_66 rfl ?_
      refine z_istore (pc := 67) (lv' := [(4, zI (1 : Int32)), (0, zP a0), (2, zP a2), (3, zI a3), (5, zP a5)]) x dX1_run_67 (Nat.le_of_ble_eq_true rfl) rfl ?_
      refine z_goto (pc := 69) (tgt := 88) x dX1_run_69 rfl ?_
      exact z_sub [1, 2, 3, 0] rfl (w_X1_run_88 x hl hret hnm htab a0 a2 a3 (1 : Int32))
    · refine z_aload (pc := 40) x 4 dX1_run_40 rfl ?_
      refine z_call (pc := 42) (z_canIF (pc := 42) (As := []) (st := []) (x9 := ⟨"java/util/Iterator", "next", "()Ljava/lang/Object;"⟩) x (ci := 11) rfl (fun b => m_J22_next hl (some b)) q2534 q423 q422 (by decide) q424 q426 q427 q425 q414 q139 q428 nx_java_util_Iterator_next___Ljava_lang_Object_ ⟨by decide, by decide⟩ (Nat.le_of_ble_eq_true rfl) dX1_run_42) (zv_R fun v42 => ?_) (fun q => zx_cat x [(13, s_X1_run_72 E a0 a2 a3 a4 (some q), ⟨22, 69, 72, 47⟩), (8, s_X1_run_83 E a0 a2 a3 (some q), ⟨22, 69, 83, 7⟩), (2, s_X1_run_83 E a0 a2 a3 (some q), ⟨22, 69, 83, 22⟩), (5, s_X1_run_83 E a0 a2 a3 (some q), ⟨22, 69, 83, 16⟩), (6, s_X1_run_83 E a0 a2 a3 (some q), ⟨22, 69, 83, 19⟩)] htab (List.forall_mem_cons.mpr ⟨⟨rfl, (show (47 : Nat) ≠ 0 by decide), q2156, z_sub [0, 1, 2, 3] rfl (w_X1_run_72 x hl hret hnm htab a0 a2 a3 a4 (some q))⟩, (List.forall_mem_cons.mpr ⟨⟨rfl, (show (7 : Nat) ≠ 0 by decide), q1705, z_sub [0, 1, 2] rfl (w_X1_run_83 x hl hret hnm htab a0 a2 a3 (some q))⟩, (List.forall_mem_cons.mpr ⟨⟨rfl, (show (22 : Nat) ≠ 0 by decide), q1537, z_sub [0, 1, 2] rfl (w_X1_run_83 x hl hret hnm htab a0 a2 a3 (some q))⟩, (List.forall_mem_cons.mpr ⟨⟨rfl, (show (16 : Nat) ≠ 0 by decide), q1555, z_sub [0, 1, 2] rfl (w_X1_run_83 x hl hret hnm htab a0 a2 a3 (some q))⟩, (List.forall_mem_cons.mpr ⟨⟨rfl, (show (19 : Nat) ≠ 0 by decide), q1658, z_sub [0, 1, 2] rfl (w_X1_run_83 x hl hret hnm htab a0 a2 a3 (some q))⟩, (fun _ hj => nomatch hj)⟩)⟩)⟩)⟩)⟩))
      refine z_csS (pc := 47) x (ci := 28) rfl q2535 dX1_run_47 ?_
      refine z_astore (pc := 50) (lv' := [(6, zP v42), (0, zP a0), (2, zP a2), (3, zI a3), (4, zI a4), (5, zP a5)]) x dX1_run_50 (Nat.le_of_ble_eq_true rfl) rfl ?_
      refine z_aload (pc := 52) x 0 dX1_run_52 rfl ?_
      refine z_aload_n (pc := 54) x 2 dX1_run_54 rfl rfl ?_
      refine z_call (pc := 55) (z_canV (pc := 55) (As := [zP a2]) (st := []) x (ci := 28) rfl (fun b => m_X22_execute hl (some b) a2) q2536 q2537 (x.2.2.2.2.1 _ q2538) q161 q2539 n_X22_execute ⟨by decide, by decide⟩ (Nat.le_of_ble_eq_true rfl) dX1_run_55) (zv_I fun v55 => ?_) (fun q => zx_cat x [(13, s_X1_run_72 E a0 a2 a3 a4 (some q), ⟨22, 69, 72, 47⟩), (8, s_X1_run_83 E a0 a2 a3 (some q), ⟨22, 69, 83, 7⟩), (2, s_X1_run_83 E a0 a2 a3 (some q), ⟨22, 69, 83, 22⟩), (5, s_X1_run_83 E a0 a2 a3 (some q), ⟨22, 69, 83, 16⟩), (6, s_X1_run_83 E a0 a2 a3 (some q), ⟨22, 69, 83, 19⟩)] htab (List.forall_mem_cons.mpr ⟨⟨rfl, (show (47 : Nat) ≠ 0 by decide), q2156, z_sub [1, 2, 3, 4] rfl (w_X1_run_72 x hl hret hnm htab a0 a2 a3 a4 (some q))⟩, (List.forall_mem_cons.mpr ⟨⟨rfl, (show (7 : Nat) ≠ 0 by decide), q1705, z_sub [1, 2, 3] rfl (w_X1_run_83 x hl hret hnm htab a0 a2 a3 (some q))⟩, (List.forall_mem_cons.mpr ⟨⟨rfl, (show (22 : Nat) ≠ 0 by decide), q1537, z_sub [1, 2, 3] rfl (w_X1_run_83 x hl hret hnm htab a0 a2 a3 (some q))⟩, (List.forall_mem_cons.mpr ⟨⟨rfl, (show (16 : Nat) ≠ 0 by decide), q1555, z_sub [1, 2, 3] rfl (w_X1_run_83 x hl hret hnm htab a0 a2 a3 (some q))⟩, (List.forall_mem_cons.mpr ⟨⟨rfl, (show (19 : Nat) ≠ 0 by decide), q1658, z_sub [1, 2, 3] rfl (w_X1_run_83 x hl hret hnm htab a0 a2 a3 (some q))⟩, (fun _ hj => nomatch hj)⟩)⟩)⟩)⟩)⟩))
      refine z_istore (pc := 58) (lv' := [(7, zI v55), (6, zP v42), (0, zP a0), (2, zP a2), (3, zI a3), (4, zI a4), (5, zP a5)]) x dX1_run_58 (Nat.le_of_ble_eq_true rfl) rfl ?_
      refine z_iinc (pc := 60) (lv' := [(3, zI (a3 + (1 : Int32))), (7, zI v55), (6, zP v42), (0, zP a0), (2, zP a2), (4, zI a4), (5, zP a5)]) x (v2 := (a3 + (1 : Int32))) 4 dX1_run_60 rfl rfl (Nat.le_of_ble_eq_true rfl) rfl ?_
      refine z_goto (pc := 63) (tgt := 30) x dX1_run_63 rfl ?_
      exact z_sub [3, 4, 0, 5, 6] rfl (h30 a0 a2 (a3 + (1 : Int32)) a4 a5)
def s_X1_run (E : zE) (a0 : Option Nat) : zM := zC (zRv a0 [(16, fun b => s_X1_parseBuffer E (some b))]) zThr (zKR (fun v1 => zNew 26 4 [.null, .null, .null, .null] (fun v5 => zGetR a0 16 0 (fun v10 => zC (zSp v5 (fun b => s_X2_init_2 E (some b) v10)) zThr (zKV (zC (zRv v1 [(10, fun b => s_J2_iterator E (some b))]) (fun q => zCat1 q [(13, s_X1_run_72 E a0 v5 (0 : Int32) (0 : Int32) (some q)), (8, s_X1_run_83 E a0 v5 (0 : Int32) (some q)), (2, s_X1_run_83 E a0 v5 (0 : Int32) (some q)), (5, s_X1_run_83 E a0 v5 (0 : Int32) (some q)), (6, s_X1_run_83 E a0 v5 (0 : Int32) (some q))]) (zKR (fun v23 => s_X1_run_30 E zN a0 v5 (0 : Int32) (0 : Int32) v23))))))))
theorem m_X1_run {l : Launch} {E : zE} {D : va_G} {tA : Nat → ClassId} (hl : l.stackTraces = false) (a0 : Option Nat) : zMet l E D tA yX1_run (wsW_ yX1_run cX1_run 8 (Option.some Jvm.ClassFile.FieldType.int) [(22, 69, 72, 47), (22, 69, 83, 7), (22, 69, 83, 22), (22, 69, 83, 16), (22, 69, 83, 19)]) 76 (s_X1_run E a0) [zP a0] := by
  refine z_metW hl (by decide +kernel) (by rw [zSl_len]; exact (Nat.le_of_ble_eq_true rfl)) fun p e R s m args below meth c k0 x hret hnm htab => ?_
  refine z_lv [(0, zP a0)] rfl ?_
  unfold s_X1_run
  refine z_aload_n (pc := 0) x 0 dX1_run_0 rfl rfl ?_
  refine z_call (pc := 1) (z_canVX (pc := 1) (As := []) (st := []) x (ci := 16) rfl (fun b => m_X1_parseBuffer hl (some b)) q2157 q2159 (z_selP x (ci := 16) rfl (by decide) (zNi_inst x q168) q2158 q2159) q108 q2160 n_X1_parseBuffer ⟨by decide, by decide⟩ (Nat.le_of_ble_eq_true rfl) dX1_run_1) (zv_R fun v1 => ?_) (fun q => zx_thr x (by rw [htab]; decide +kernel) q)
  refine z_astore_n (pc := 4) (lv' := [(1, zP v1), (0, zP a0)]) x dX1_run_4 rfl (Nat.le_of_ble_eq_true rfl) rfl ?_
  refine z_new (pc := 5) x in_X2 tyX2 tyX2_ok q175 q176 q109 (ci := 26) rfl (by decide) (by decide +kernel) dX1_run_5 fun v5 => ?_
  refine z_dup (pc := 8) x dX1_run_8 rfl ?_
  refine z_aload_n (pc := 9) x 1 dX1_run_9 rfl rfl ?_
  refine z_get (pc := 10) (fun _ _ h => zAsR_eq h) x in_X1 (ci := 16) rfl (k := 0) (by decide) q320 (fun _ h => h) dX1_run_10 fun v10 => ?_
  refine z_call (pc := 13) (z_canI (pc := 13) (ret := none) (As := [zP v10]) (st := [zP v5]) x (fun b => m_X2_init_2 hl (some b) v10) q1469 rfl q1470 q109 q1471 n_X2_init_2 ⟨by decide, by decide⟩ (Nat.le_of_ble_eq_true rfl) dX1_run_13) (zv_V ?_) (fun q => zx_thr x (by rw [htab]; decide +kernel) q)
  refine z_astore_n (pc := 16) (lv' := [(2, zP v5), (1, zP v1), (0, zP a0)]) x dX1_run_16 rfl (Nat.le_of_ble_eq_true rfl) rfl ?_
  refine z_iconst (pc := 17) x (v := (0 : Int32)) dX1_run_17 rfl ?_
  refine z_istore_n (pc := 18) (lv' := [(3, zI (0 : Int32)), (2, zP v5), (1, zP v1), (0, zP a0)]) x dX1_run_18 rfl (Nat.le_of_ble_eq_true rfl) rfl ?_
  refine z_iconst (pc := 19) x (v := (0 : Int32)) dX1_run_19 rfl ?_
  refine z_istore (pc := 20) (lv' := [(4, zI (0 : Int32)), (3, zI (0 : Int32)), (2, zP v5), (1, zP v1), (0, zP a0)]) x dX1_run_20 (Nat.le_of_ble_eq_true rfl) rfl ?_
  refine z_aload_n (pc := 22) x 3 dX1_run_22 rfl rfl ?_
  refine z_call (pc := 23) (z_canIF (pc := 23) (As := []) (st := []) (x9 := ⟨"java/util/List", "iterator", "()Ljava/util/Iterator;"⟩) x (ci := 10) rfl (fun b => m_J2_iterator hl (some b)) q2530 q383 q382 (by decide) q385 q387 q388 q386 q384 q112 q389 nx_java_util_List_iterator___Ljava_util_Iterator_ ⟨by decide, by decide⟩ (Nat.le_of_ble_eq_true rfl) dX1_run_23) (zv_R fun v23 => ?_) (fun q => zx_cat x [(13, s_X1_run_72 E a0 v5 (0 : Int32) (0 : Int32) (some q), ⟨22, 69, 72, 47⟩), (8, s_X1_run_83 E a0 v5 (0 : Int32) (some q), ⟨22, 69, 83, 7⟩), (2, s_X1_run_83 E a0 v5 (0 : Int32) (some q), ⟨22, 69, 83, 22⟩), (5, s_X1_run_83 E a0 v5 (0 : Int32) (some q), ⟨22, 69, 83, 16⟩), (6, s_X1_run_83 E a0 v5 (0 : Int32) (some q), ⟨22, 69, 83, 19⟩)] htab (List.forall_mem_cons.mpr ⟨⟨rfl, (show (47 : Nat) ≠ 0 by decide), q2156, z_sub [4, 2, 1, 0] rfl (w_X1_run_72 x hl hret hnm htab a0 v5 (0 : Int32) (0 : Int32) (some q))⟩, (List.forall_mem_cons.mpr ⟨⟨rfl, (show (7 : Nat) ≠ 0 by decide), q1705, z_sub [4, 2, 1] rfl (w_X1_run_83 x hl hret hnm htab a0 v5 (0 : Int32) (some q))⟩, (List.forall_mem_cons.mpr ⟨⟨rfl, (show (22 : Nat) ≠ 0 by decide), q1537, z_sub [4, 2, 1] rfl (w_X1_run_83 x hl hret hnm htab a0 v5 (0 : Int32) (some q))⟩, (List.forall_mem_cons.mpr ⟨⟨rfl, (show (16 : Nat) ≠ 0 by decide), q1555, z_sub [4, 2, 1] rfl (w_X1_run_83 x hl hret hnm htab a0 v5 (0 : Int32) (some q))⟩, (List.forall_mem_cons.mpr ⟨⟨rfl, (show (19 : Nat) ≠ 0 by decide), q1658, z_sub [4, 2, 1] rfl (w_X1_run_83 x hl hret hnm htab a0 v5 (0 : Int32) (some q))⟩, (fun _ hj => nomatch hj)⟩)⟩)⟩)⟩)⟩))
  refine z_astore (pc := 28) (lv' := [(5, zP v23), (4, zI (0 : Int32)), (3, zI (0 : Int32)), (2, zP v5), (1, zP v1), (0, zP a0)]) x dX1_run_28 (Nat.le_of_ble_eq_true rfl) rfl ?_
  exact z_sub [5, 3, 2, 1, 0] rfl (w_X1_run_30 x hl hret hnm htab zN a0 v5 (0 : Int32) (0 : Int32) v23)
/-! X0_run -/
def s_X0_run_11 (E : zE) (b0 : Option Nat) : zM := zRet (some (.int (1 : Int32)))
theorem w_X0_run_11 (x : zCx p l R s m args meth c E D tA cX0_run 3 yX0_run.cls 77) (hl : l.stackTraces = false) (hret : meth.sig.returnType = (Option.some Jvm.ClassFile.FieldType.int)) (hnm : meth.name = yX0_run.name) (htab : c.exceptionTable.toList = tableOf [(0, 8, 11, 13), (0, 8, 14, 15)]) (b0 : Option Nat) : zW p l e R s m args below meth c E D tA 3 k0 (s_X0_run_11 E b0) [] 11 [zP b0] := by
  unfold s_X0_run_11
  refine z_astore_n (pc := 11) (lv' := [(2, zP b0)]) x dX0_run_11 rfl (Nat.le_of_ble_eq_true rfl) rfl ?_
  refine z_iconst (pc := 12) x (v := (1 : Int32)) dX0_run_12 rfl ?_
  exact z_iret (pc := 13) x hret dX0_run_13
def s_X0_run_14 (E : zE) (b0 : Option Nat) : zM := zRet (some (.int (2 : Int32)))
theorem w_X0_run_14 (x : zCx p l R s m args meth c E D tA cX0_run 3 yX0_run.cls 77) (hl : l.stackTraces = false) (hret : meth.sig.returnType = (Option.some Jvm.ClassFile.FieldType.int)) (hnm : meth.name = yX0_run.name) (htab : c.exceptionTable.toList = tableOf [(0, 8, 11, 13), (0, 8, 14, 15)]) (b0 : Option Nat) : zW p l e R s m args below meth c E D tA 3 k0 (s_X0_run_14 E b0) [] 14 [zP b0] := by
  unfold s_X0_run_14
  refine z_astore_n (pc := 14) (lv' := [(2, zP b0)]) x dX0_run_14 rfl (Nat.le_of_ble_eq_true rfl) rfl ?_
  refine z_iconst (pc := 15) x (v := (2 : Int32)) dX0_run_15 rfl ?_
  exact z_iret (pc := 16) x hret dX0_run_16
def s_X0_run (E : zE) (a0 : Option Nat) (a1 : Option Nat) : zM := zC (zRv a0 [(16, fun b => s_X1_run E (some b))]) (fun q => zCat1 q [(0, s_X0_run_11 E (some q)), (2, s_X0_run_14 E (some q))]) (zKI (fun v3 => zSaL E 3 a1 (0 : Int32) ((v3).toInt64) (zRet (some (.int (0 : Int32))))))
theorem m_X0_run {l : Launch} {E : zE} {D : va_G} {tA : Nat → ClassId} (hl : l.stackTraces = false) (a0 : Option Nat) (a1 : Option Nat) : zMet l E D tA yX0_run (wsW_ yX0_run cX0_run 3 (Option.some Jvm.ClassFile.FieldType.int) [(0, 8, 11, 13), (0, 8, 14, 15)]) 77 (s_X0_run E a0 a1) [zP a0, zP a1] := by
  refine z_metW hl (by decide +kernel) (by rw [zSl_len]; exact (Nat.le_of_ble_eq_true rfl)) fun p e R s m args below meth c k0 x hret hnm htab => ?_
  refine z_lv [(0, zP a0), (1, zP a1)] rfl ?_
  unfold s_X0_run
  refine z_aload_n (pc := 0) x 1 dX0_run_0 rfl rfl ?_
  refine z_iconst (pc := 1) x (v := (0 : Int32)) dX0_run_1 rfl ?_
  refine z_aload_n (pc := 2) x 0 dX0_run_2 rfl rfl ?_
  refine z_call (pc := 3) (z_canVX (pc := 3) (As := []) (st := [zI (0 : Int32), zP a1]) x (ci := 16) rfl (fun b => m_X1_run hl (some b)) q2152 q2153 (x.2.2.2.2.1 _ q2154) q108 q2155 n_X1_run ⟨by decide, by decide⟩ (Nat.le_of_ble_eq_true rfl) dX0_run_3) (zv_I fun v3 => ?_) (fun q => zx_cat x [(0, s_X0_run_11 E (some q), ⟨0, 8, 11, 13⟩), (2, s_X0_run_14 E (some q), ⟨0, 8, 14, 15⟩)] htab (List.forall_mem_cons.mpr ⟨⟨rfl, (show (13 : Nat) ≠ 0 by decide), q1462, z_sub [] rfl (w_X0_run_11 x hl hret hnm htab (some q))⟩, (List.forall_mem_cons.mpr ⟨⟨rfl, (show (15 : Nat) ≠ 0 by decide), q1463, z_sub [] rfl (w_X0_run_14 x hl hret hnm htab (some q))⟩, (fun _ hj => nomatch hj)⟩)⟩))
  refine z_i2l (pc := 6) x dX0_run_6 ?_
  refine z_last (pc := 7) x (t := 3) rfl dX0_run_7 ?_
  refine z_goto (pc := 8) (tgt := 17) x dX0_run_8 rfl ?_
  refine z_iconst (pc := 17) x (v := (0 : Int32)) dX0_run_17 rfl ?_
  exact z_iret (pc := 18) x hret dX0_run_18
/-! X1_errorPosition -/
def s_X1_errorPosition (E : zE) (a0 : Option Nat) : zM := zGetI a0 16 6 (fun v1 => zC (s_X1_requireFound E v1) zThr (zKI (fun v4 => zRet (some (.int v4)))))
theorem m_X1_errorPosition {l : Launch} {E : zE} {D : va_G} {tA : Nat → ClassId} (hl : l.stackTraces = false) (a0 : Option Nat) : zMet l E D tA yX1_errorPosition (ws_ yX1_errorPosition cX1_errorPosition 1 (Option.some Jvm.ClassFile.FieldType.int)) 11 (s_X1_errorPosition E a0) [zP a0] := by
  refine z_met hl (by decide +kernel) (by rw [zSl_len]; exact (Nat.le_of_ble_eq_true rfl)) fun p e R s m args below meth c k0 x hret hnm htab => ?_
  refine z_lv [(0, zP a0)] rfl ?_
  unfold s_X1_errorPosition
  refine z_aload_n (pc := 0) x 0 dX1_errorPosition_0 rfl rfl ?_
  refine z_get (pc := 1) (fun _ _ h => zAsI_eq h) x in_X1 (ci := 16) rfl (k := 6) (by decide) q327 (fun _ h => h) dX1_errorPosition_1 fun v1 => ?_
  refine z_call (pc := 4) (z_canS (pc := 4) (As := [zI v1]) (st := []) x (m_X1_requireFound hl v1) q1790 q1791 q108 q1792 n_X1_requireFound ⟨by decide, by decide⟩ (Nat.le_of_ble_eq_true rfl) dX1_errorPosition_4) (zv_I fun v4 => ?_) (fun q => zx_thr x (fun z hz => (htab z hz).elim) q)
  exact z_iret (pc := 7) x hret dX1_errorPosition_7
/-! X0_errorPosition -/
def s_X0_errorPosition_11 (E : zE) (b0 : Option Nat) : zM := zRet (some (.int (1 : Int32)))
theorem w_X0_errorPosition_11 (x : zCx p l R s m args meth c E D tA cX0_errorPosition 3 yX0_errorPosition.cls 12) (hl : l.stackTraces = false) (hret : meth.sig.returnType = (Option.some Jvm.ClassFile.FieldType.int)) (hnm : meth.name = yX0_errorPosition.name) (htab : c.exceptionTable.toList = tableOf [(0, 8, 11, 22)]) (b0 : Option Nat) : zW p l e R s m args below meth c E D tA 3 k0 (s_X0_errorPosition_11 E b0) [] 11 [zP b0] := by
  unfold s_X0_errorPosition_11
  refine z_astore_n (pc := 11) (lv' := [(2, zP b0)]) x dX0_errorPosition_11 rfl (Nat.le_of_ble_eq_true rfl) rfl ?_
  refine z_iconst (pc := 12) x (v := (1 : Int32)) dX0_errorPosition_12 rfl ?_
  exact z_iret (pc := 13) x hret dX0_errorPosition_13
def s_X0_errorPosition (E : zE) (a0 : Option Nat) (a1 : Option Nat) : zM := zC (zRv a0 [(16, fun b => s_X1_errorPosition E (some b))]) (fun q => zCat1 q [(6, s_X0_errorPosition_11 E (some q))]) (zKI (fun v3 => zSaL E 3 a1 (0 : Int32) ((v3).toInt64) (zRet (some (.int (0 : Int32))))))
theorem m_X0_errorPosition {l : Launch} {E : zE} {D : va_G} {tA : Nat → ClassId} (hl : l.stackTraces = false) (a0 : Option Nat) (a1 : Option Nat) : zMet l E D tA yX0_errorPosition (wsW_ yX0_errorPosition cX0_errorPosition 3 (Option.some Jvm.ClassFile.FieldType.int) [(0, 8, 11, 22)]) 12 (s_X0_errorPosition E a0 a1) [zP a0, zP a1] := by
  refine z_metW hl (by decide +kernel) (by rw [zSl_len]; exact (Nat.le_of_ble_eq_true rfl)) fun p e R s m args below meth c k0 x hret hnm htab => ?_
  refine z_lv [(0, zP a0), (1, zP a1)] rfl ?_
  unfold s_X0_errorPosition
  refine z_aload_n (pc := 0) x 1 dX0_errorPosition_0 rfl rfl ?_
  refine z_iconst (pc := 1) x (v := (0 : Int32)) dX0_errorPosition_1 rfl ?_
  refine z_aload_n (pc := 2) x 0 dX0_errorPosition_2 rfl rfl ?_
  refine z_call (pc := 3) (z_canV (pc := 3) (As := []) (st := [zI (0 : Int32), zP a1]) x (ci := 16) rfl (fun b => m_X1_errorPosition hl (some b)) q2679 q2680 (x.2.2.2.2.1 _ q2681) q108 q2682 n_X1_errorPosition ⟨by decide, by decide⟩ (Nat.le_of_ble_eq_true rfl) dX0_errorPosition_3) (zv_I fun v3 => ?_) (fun q => zx_cat x [(6, s_X0_errorPosition_11 E (some q), ⟨0, 8, 11, 22⟩)] htab (List.forall_mem_cons.mpr ⟨⟨rfl, (show (22 : Nat) ≠ 0 by decide), q1642, z_sub [] rfl (w_X0_errorPosition_11 x hl hret hnm htab (some q))⟩, (fun _ hj => nomatch hj)⟩))
  refine z_i2l (pc := 6) x dX0_errorPosition_6 ?_
  refine z_last (pc := 7) x (t := 3) rfl dX0_errorPosition_7 ?_
  refine z_goto (pc := 8) (tgt := 14) x dX0_errorPosition_8 rfl ?_
  refine z_iconst (pc := 14) x (v := (0 : Int32)) dX0_errorPosition_14 rfl ?_
  exact z_iret (pc := 15) x hret dX0_errorPosition_15
/-! X1_failedCommand -/
def s_X1_failedCommand (E : zE) (a0 : Option Nat) : zM := zGetI a0 16 7 (fun v1 => zC (s_X1_requireFound E v1) zThr (zKI (fun v4 => zRet (some (.int v4)))))
theorem m_X1_failedCommand {l : Launch} {E : zE} {D : va_G} {tA : Nat → ClassId} (hl : l.stackTraces = false) (a0 : Option Nat) : zMet l E D tA yX1_failedCommand (ws_ yX1_failedCommand cX1_failedCommand 1 (Option.some Jvm.ClassFile.FieldType.int)) 11 (s_X1_failedCommand E a0) [zP a0] := by
  refine z_met hl (by decide +kernel) (by rw [zSl_len]; exact (Nat.le_of_ble_eq_true rfl)) fun p e R s m args below meth c k0 x hret hnm htab => ?_
  refine z_lv [(0, zP a0)] rfl ?_
  unfold s_X1_failedCommand
  refine z_aload_n (pc := 0) x 0 dX1_failedCommand_0 rfl rfl ?_
  refine z_get (pc := 1) (fun _ _ h => zAsI_eq h) x in_X1 (ci := 16) rfl (k := 7) (by decide) q328 (fun _ h => h) dX1_failedCommand_1 fun v1 => ?_
  refine z_call (pc := 4) (z_canS (pc := 4) (As := [zI v1]) (st := []) x (m_X1_requireFound hl v1) q1790 q1791 q108 q1792 n_X1_requireFound ⟨by decide, by decide⟩ (Nat.le_of_ble_eq_true rfl) dX1_failedCommand_4) (zv_I fun v4 => ?_) (fun q => zx_thr x (fun z hz => (htab z hz).elim) q)
  exact z_iret (pc := 7) x hret dX1_failedCommand_7
/-! X0_failedCommand -/
def s_X0_failedCommand_11 (E : zE) (b0 : Option Nat) : zM := zRet (some (.int (1 : Int32)))
theorem w_X0_failedCommand_11 (x : zCx p l R s m args meth c E D tA cX0_failedCommand 3 yX0_failedCommand.cls 12) (hl : l.stackTraces = false) (hret : meth.sig.returnType = (Option.some Jvm.ClassFile.FieldType.int)) (hnm : meth.name = yX0_failedCommand.name) (htab : c.exceptionTable.toList = tableOf [(0, 8, 11, 22)]) (b0 : Option Nat) : zW p l e R s m args below meth c E D tA 3 k0 (s_X0_failedCommand_11 E b0) [] 11 [zP b0] := by
  unfold s_X0_failedCommand_11
  refine z_astore_n (pc := 11) (lv' := [(2, zP b0)]) x dX0_failedCommand_11 rfl (Nat.le_of_ble_eq_true rfl) rfl ?_
  refine z_iconst (pc := 12) x (v := (1 : Int32)) dX0_failedCommand_12 rfl ?_
  exact z_iret (pc := 13) x hret dX0_failedCommand_13
def s_X0_failedCommand (E : zE) (a0 : Option Nat) (a1 : Option Nat) : zM := zC (zRv a0 [(16, fun b => s_X1_failedCommand E (some b))]) (fun q => zCat1 q [(6, s_X0_failedCommand_11 E (some q))]) (zKI (fun v3 => zSaL E 3 a1 (0 : Int32) ((v3).toInt64) (zRet (some (.int (0 : Int32))))))
theorem m_X0_failedCommand {l : Launch} {E : zE} {D : va_G} {tA : Nat → ClassId} (hl : l.stackTraces = false) (a0 : Option Nat) (a1 : Option Nat) : zMet l E D tA yX0_failedCommand (wsW_ yX0_failedCommand cX0_failedCommand 3 (Option.some Jvm.ClassFile.FieldType.int) [(0, 8, 11, 22)]) 12 (s_X0_failedCommand E a0 a1) [zP a0, zP a1] := by
  refine z_metW hl (by decide +kernel) (by rw [zSl_len]; exact (Nat.le_of_ble_eq_true rfl)) fun p e R s m args below meth c k0 x hret hnm htab => ?_
  refine z_lv [(0, zP a0), (1, zP a1)] rfl ?_
  unfold s_X0_failedCommand
  refine z_aload_n (pc := 0) x 1 dX0_failedCommand_0 rfl rfl ?_
  refine z_iconst (pc := 1) x (v := (0 : Int32)) dX0_failedCommand_1 rfl ?_
  refine z_aload_n (pc := 2) x 0 dX0_failedCommand_2 rfl rfl ?_
  refine z_call (pc := 3) (z_canV (pc := 3) (As := []) (st := [zI (0 : Int32), zP a1]) x (ci := 16) rfl (fun b => m_X1_failedCommand hl (some b)) q2686 q2687 (x.2.2.2.2.1 _ q2688) q108 q2689 n_X1_failedCommand ⟨by decide, by decide⟩ (Nat.le_of_ble_eq_true rfl) dX0_failedCommand_3) (zv_I fun v3 => ?_) (fun q => zx_cat x [(6, s_X0_failedCommand_11 E (some q), ⟨0, 8, 11, 22⟩)] htab (List.forall_mem_cons.mpr ⟨⟨rfl, (show (22 : Nat) ≠ 0 by decide), q1642, z_sub [] rfl (w_X0_failedCommand_11 x hl hret hnm htab (some q))⟩, (fun _ hj => nomatch hj)⟩))
  refine z_i2l (pc := 6) x dX0_failedCommand_6 ?_
  refine z_last (pc := 7) x (t := 3) rfl dX0_failedCommand_7 ?_
  refine z_goto (pc := 8) (tgt := 14) x dX0_failedCommand_8 rfl ?_
  refine z_iconst (pc := 14) x (v := (0 : Int32)) dX0_failedCommand_14 rfl ?_
  exact z_iret (pc := 15) x hret dX0_failedCommand_15
/-! X1_write -/
def s_X1_write (E : zE) (a0 : Option Nat) (a1 : Option Nat) : zM := zSet E a0 16 5 (zVal (zP a1)) (zGetR a0 16 5 (fun v6 => zC (zRv v6 [(15, fun b => s_J6_length E (some b))]) zThr (zKI (fun v9 => zRet (some (.int v9))))))
theorem m_X1_write {l : Launch} {E : zE} {D : va_G} {tA : Nat → ClassId} (hl : l.stackTraces = false) (a0 : Option Nat) (a1 : Option Nat) : zMet l E D tA yX1_write (ws_ yX1_write cX1_write 2 (Option.some Jvm.ClassFile.FieldType.int)) 11 (s_X1_write E a0 a1) [zP a0, zP a1] := by
  refine z_met hl (by decide +kernel) (by rw [zSl_len]; exact (Nat.le_of_ble_eq_true rfl)) fun p e R s m args below meth c k0 x hret hnm htab => ?_
  refine z_lv [(0, zP a0), (1, zP a1)] rfl ?_
  unfold s_X1_write
  refine z_aload_n (pc := 0) x 0 dX1_write_0 rfl rfl ?_
  refine z_aload_n (pc := 1) x 1 dX1_write_1 rfl rfl ?_
  refine z_set (pc := 2) (v := zP a1) x in_X1 tyX1 tyX1_ok nmX1 (ci := 16) rfl (k := 5) (by decide) q326 (fun _ h => h) rfl (zfitR rfl _).1 (zfitR rfl _).2 dX1_write_2 ?_
  refine z_aload_n (pc := 5) x 0 dX1_write_5 rfl rfl ?_
  refine z_get (pc := 6) (fun _ _ h => zAsR_eq h) x in_X1 (ci := 16) rfl (k := 5) (by decide) q326 (fun _ h => h) dX1_write_6 fun v6 => ?_
  refine z_call (pc := 9) (z_canV (pc := 9) (As := []) (st := []) x (ci := 15) rfl (fun b => m_J6_length hl (some b)) q1454 q1283 (x.2.2.2.2.1 _ q1284) q119 q1285 n_J6_length ⟨by decide, by decide⟩ (Nat.le_of_ble_eq_true rfl) dX1_write_9) (zv_I fun v9 => ?_) (fun q => zx_thr x (fun z hz => (htab z hz).elim) q)
  exact z_iret (pc := 12) x hret dX1_write_12
/-! X1_writeRule -/
def s_X1_writeRule (E : zE) (a0 : Option Nat) (a1 : Int32) : zM := zC (zRv a0 [(16, fun b => s_X1_requireRule E (some b) a1)]) zThr (zKR (fun v3 => zGetR v3 31 3 (fun v6 => zC (zRv a0 [(16, fun b => s_X1_write E (some b) v6)]) zThr (zKI (fun v9 => zRet (some (.int v9)))))))
theorem m_X1_writeRule {l : Launch} {E : zE} {D : va_G} {tA : Nat → ClassId} (hl : l.stackTraces = false) (a0 : Option Nat) (a1 : Int32) : zMet l E D tA yX1_writeRule (ws_ yX1_writeRule cX1_writeRule 2 (Option.some Jvm.ClassFile.FieldType.int)) 13 (s_X1_writeRule E a0 a1) [zP a0, zI a1] := by
  refine z_met hl (by decide +kernel) (by rw [zSl_len]; exact (Nat.le_of_ble_eq_true rfl)) fun p e R s m args below meth c k0 x hret hnm htab => ?_
  refine z_lv [(0, zP a0), (1, zI a1)] rfl ?_
  unfold s_X1_writeRule
  refine z_aload_n (pc := 0) x 0 dX1_writeRule_0 rfl rfl ?_
  refine z_aload_n (pc := 1) x 0 dX1_writeRule_1 rfl rfl ?_
  refine z_iload_n (pc := 2) x 1 dX1_writeRule_2 rfl rfl ?_
  refine z_call (pc := 3) (z_canV (pc := 3) (As := [zI a1]) (st := [zP a0]) x (ci := 16) rfl (fun b => m_X1_requireRule hl (some b) a1) q1962 q1964 (z_selP x (ci := 16) rfl (by decide) (zNi_inst x q168) q1963 q1964) q108 q1965 n_X1_requireRule ⟨by decide, by decide⟩ (Nat.le_of_ble_eq_true rfl) dX1_writeRule_3) (zv_R fun v3 => ?_) (fun q => zx_thr x (fun z hz => (htab z hz).elim) q)
  refine z_getN (pc := 6) (fun _ _ h => zAsR_eq h) x in_X25 (ci := 31) rfl (k := 3) (by decide) q2513 (fun _ h => h) dX1_writeRule_6 fun v6 => ?_
  refine z_call (pc := 9) (z_canV (pc := 9) (As := [zP v6]) (st := []) x (ci := 16) rfl (fun b => m_X1_write hl (some b) v6) q1450 q1452 (z_selP x (ci := 16) rfl (by decide) (zNi_inst x q168) q1451 q1452) q108 q1453 n_X1_write ⟨by decide, by decide⟩ (Nat.le_of_ble_eq_true rfl) dX1_writeRule_9) (zv_I fun v9 => ?_) (fun q => zx_thr x (fun z hz => (htab z hz).elim) q)
  exact z_iret (pc := 12) x hret dX1_writeRule_12
/-! X0_writeRule -/
def s_X0_writeRule_12 (E : zE) (b0 : Option Nat) : zM := zRet (some (.int (1 : Int32)))
theorem w_X0_writeRule_12 (x : zCx p l R s m args meth c E D tA cX0_writeRule 4 yX0_writeRule.cls 14) (hl : l.stackTraces = false) (hret : meth.sig.returnType = (Option.some Jvm.ClassFile.FieldType.int)) (hnm : meth.name = yX0_writeRule.name) (htab : c.exceptionTable.toList = tableOf [(0, 9, 12, 28)]) (b0 : Option Nat) : zW p l e R s m args below meth c E D tA 4 k0 (s_X0_writeRule_12 E b0) [] 12 [zP b0] := by
  unfold s_X0_writeRule_12
  refine z_astore_n (pc := 12) (lv' := [(3, zP b0)]) x dX0_writeRule_12 rfl (Nat.le_of_ble_eq_true rfl) rfl ?_
  refine z_iconst (pc := 13) x (v := (1 : Int32)) dX0_writeRule_13 rfl ?_
  exact z_iret (pc := 14) x hret dX0_writeRule_14
def s_X0_writeRule (E : zE) (a0 : Option Nat) (a1 : Int32) (a2 : Option Nat) : zM := zC (zRv a0 [(16, fun b => s_X1_writeRule E (some b) a1)]) (fun q => zCat1 q [(8, s_X0_writeRule_12 E (some q))]) (zKI (fun v4 => zSaL E 3 a2 (0 : Int32) ((v4).toInt64) (zRet (some (.int (0 : Int32))))))
theorem m_X0_writeRule {l : Launch} {E : zE} {D : va_G} {tA : Nat → ClassId} (hl : l.stackTraces = false) (a0 : Option Nat) (a1 : Int32) (a2 : Option Nat) : zMet l E D tA yX0_writeRule (wsW_ yX0_writeRule cX0_writeRule 4 (Option.some Jvm.ClassFile.FieldType.int) [(0, 9, 12, 28)]) 14 (s_X0_writeRule E a0 a1 a2) [zP a0, zI a1, zP a2] := by
  refine z_metW hl (by decide +kernel) (by rw [zSl_len]; exact (Nat.le_of_ble_eq_true rfl)) fun p e R s m args below meth c k0 x hret hnm htab => ?_
  refine z_lv [(0, zP a0), (1, zI a1), (2, zP a2)] rfl ?_
  unfold s_X0_writeRule
  refine z_aload_n (pc := 0) x 2 dX0_writeRule_0 rfl rfl ?_
  refine z_iconst (pc := 1) x (v := (0 : Int32)) dX0_writeRule_1 rfl ?_
  refine z_aload_n (pc := 2) x 0 dX0_writeRule_2 rfl rfl ?_
  refine z_iload_n (pc := 3) x 1 dX0_writeRule_3 rfl rfl ?_
  refine z_call (pc := 4) (z_canV (pc := 4) (As := [zI a1]) (st := [zI (0 : Int32), zP a2]) x (ci := 16) rfl (fun b => m_X1_writeRule hl (some b) a1) q2693 q2694 (x.2.2.2.2.1 _ q2695) q108 q2696 n_X1_writeRule ⟨by decide, by decide⟩ (Nat.le_of_ble_eq_true rfl) dX0_writeRule_4) (zv_I fun v4 => ?_) (fun q => zx_cat x [(8, s_X0_writeRule_12 E (some q), ⟨0, 9, 12, 28⟩)] htab (List.forall_mem_cons.mpr ⟨⟨rfl, (show (28 : Nat) ≠ 0 by decide), q1673, z_sub [] rfl (w_X0_writeRule_12 x hl hret hnm htab (some q))⟩, (fun _ hj => nomatch hj)⟩))
  refine z_i2l (pc := 7) x dX0_writeRule_7 ?_
  refine z_last (pc := 8) x (t := 3) rfl dX0_writeRule_8 ?_
  refine z_goto (pc := 9) (tgt := 15) x dX0_writeRule_9 rfl ?_
  refine z_iconst (pc := 15) x (v := (0 : Int32)) dX0_writeRule_15 rfl ?_
  exact z_iret (pc := 16) x hret dX0_writeRule_16
/-! J4_init -/
def s_J4_init (E : zE) (a0 : Option Nat) (a1 : Int32) : zM := zSp a0 (fun _ => if (1 : Int32) = 0 then (zC (s_J7_newBytesFor E a1) zThr (zKR (fun v27 => zSet E a0 14 0 (zVal (zP v27)) (zSetN E .byte a0 14 1 (1 : Int32) (zRet none))))) else (zNewA 1 zAr0 a1 (fun v12 => zSet E a0 14 0 (zVal (zP v12)) (zSetN E .byte a0 14 1 (0 : Int32) (zRet none)))))
theorem m_J4_init {l : Launch} {E : zE} {D : va_G} {tA : Nat → ClassId} (hl : l.stackTraces = false) (a0 : Option Nat) (a1 : Int32) : zMet l E D tA yJ4_init (ws_ yJ4_init cJ4_init 2 (Option.none : Option Jvm.ClassFile.FieldType)) 11 (s_J4_init E a0 a1) [zP a0, zI a1] := by
  refine z_met hl (by decide +kernel) (by rw [zSl_len]; exact (Nat.le_of_ble_eq_true rfl)) fun p e R s m args below meth c k0 x hret hnm htab => ?_
  refine z_lv [(0, zP a0), (1, zI a1)] rfl ?_
  unfold s_J4_init
  refine z_aload_n (pc := 0) x 0 dJ4_init_0 rfl rfl ?_
  refine z_objInit (pc := 1) x q294 q173 q174 (by omega) (zSum (k := 0) rfl (by omega)) dJ4_init_1 ?_
  refine z_staI (pc := 4) x (v := (1 : Int32)) (by decide) q295 dJ4_init_4 ?_
  refine z_if_eq (pc := 7) (tgt := 25) x dJ4_init_7 rfl (fun _ => ?_) (fun _ => ?_)
  · refine z_aload_n (pc := 25) x 0 dJ4_init_25 rfl rfl ?_
    refine z_iload_n (pc := 26) x 1 dJ4_init_26 rfl rfl ?_
    refine z_call (pc := 27) (z_canS (pc := 27) (As := [zI a1]) (st := [zP a0]) x (m_J7_newBytesFor hl a1) q297 q298 q120 q299 n_J7_newBytesFor ⟨by decide, by decide⟩ (Nat.le_of_ble_eq_true rfl) dJ4_init_27) (zv_R fun v27 => ?_) (fun q => zx_thr x (fun z hz => (htab z hz).elim) q)
    refine z_set (pc := 30) (v := zP v27) x in_J5 tyJ5 tyJ5_ok nmJ5 (ci := 14) rfl (k := 0) (by decide) q304 (fun _ h => h) rfl (zfitR rfl _).1 (zfitR rfl _).2 dJ4_init_30 ?_
    refine z_aload_n (pc := 33) x 0 dJ4_init_33 rfl rfl ?_
    refine z_iconst (pc := 34) x (v := (1 : Int32)) dJ4_init_34 rfl ?_
    refine z_set_small fun hn hf => ?_
    refine z_set (pc := 35) (v := zI (1 : Int32)) x in_J5 tyJ5 tyJ5_ok nmJ5 (ci := 14) rfl (k := 1) (by decide) q305 (fun _ h => h) rfl hn hf dJ4_init_35 ?_
    exact z_vret (pc := 38) x hret dJ4_init_38
  · refine z_aload_n (pc := 10) x 0 dJ4_init_10 rfl rfl ?_
    refine z_iload_n (pc := 11) x 1 dJ4_init_11 rfl rfl ?_
    refine z_newA (pc := 12) x (ty := .byte) rfl (by decide) rfl q318 (fun _ _ => rfl) dJ4_init_12 fun v12 => ?_
    refine z_set (pc := 14) (v := zP v12) x in_J5 tyJ5 tyJ5_ok nmJ5 (ci := 14) rfl (k := 0) (by decide) q304 (fun _ h => h) rfl (zfitR rfl _).1 (zfitR rfl _).2 dJ4_init_14 ?_
    refine z_aload_n (pc := 17) x 0 dJ4_init_17 rfl rfl ?_
    refine z_iconst (pc := 18) x (v := (0 : Int32)) dJ4_init_18 rfl ?_
    refine z_set_small fun hn hf => ?_
    refine z_set (pc := 19) (v := zI (0 : Int32)) x in_J5 tyJ5 tyJ5_ok nmJ5 (ci := 14) rfl (k := 1) (by decide) q305 (fun _ h => h) rfl hn hf dJ4_init_19 ?_
    refine z_goto (pc := 22) (tgt := 38) x dJ4_init_22 rfl ?_
    exact z_vret (pc := 38) x hret dJ4_init_38
/-! J5_init -/
def s_J5_init (E : zE) (a0 : Option Nat) : zM := zC (zSp a0 (fun b => s_J4_init E (some b) (16 : Int32))) zThr (zKV (zRet none))
theorem m_J5_init {l : Launch} {E : zE} {D : va_G} {tA : Nat → ClassId} (hl : l.stackTraces = false) (a0 : Option Nat) : zMet l E D tA yJ5_init (ws_ yJ5_init cJ5_init 1 (Option.none : Option Jvm.ClassFile.FieldType)) 12 (s_J5_init E a0) [zP a0] := by
  refine z_met hl (by decide +kernel) (by rw [zSl_len]; exact (Nat.le_of_ble_eq_true rfl)) fun p e R s m args below meth c k0 x hret hnm htab => ?_
  refine z_lv [(0, zP a0)] rfl ?_
  unfold s_J5_init
  refine z_aload_n (pc := 0) x 0 dJ5_init_0 rfl rfl ?_
  refine z_bipush (pc := 1) x (v := (16 : Int32)) dJ5_init_1 rfl ?_
  refine z_call (pc := 3) (z_canI (pc := 3) (ret := none) (As := [zI (16 : Int32)]) (st := []) x (fun b => m_J4_init hl (some b) (16 : Int32)) q291 rfl q292 q117 q293 n_J4_init ⟨by decide, by decide⟩ (Nat.le_of_ble_eq_true rfl) dJ5_init_3) (zv_V ?_) (fun q => zx_thr x (fun z hz => (htab z hz).elim) q)
  exact z_vret (pc := 6) x hret dJ5_init_6
/-! J14_stringSize -/
def s_J14_stringSize_16 (E : zE) : Nat → Int32 → Int32 → Int32 → Int32 → zM
  | 0, _, _, _, _ => zFail
  | n + 1, a0, a1, a2, a3 => if (10 : Int32) ≤ a3 then (zRet (some (.int ((10 : Int32) + a1)))) else (if a0 ≤ a2 then ((s_J14_stringSize_16 E n) a0 a1 ((10 : Int32) * a2) (a3 + (1 : Int32))) else (zRet (some (.int (a3 + a1)))))
theorem w_J14_stringSize_16 (x : zCx p l R s m args meth c E D tA cJ14_stringSize 4 yJ14_stringSize.cls 9) (hl : l.stackTraces = false) (hret : meth.sig.returnType = (Option.some Jvm.ClassFile.FieldType.int)) (hnm : meth.name = yJ14_stringSize.name) (htab : ∀ z ∈ c.exceptionTable.toList, False) : ∀ (n : Nat) (a0 : Int32) (a1 : Int32) (a2 : Int32) (a3 : Int32), zW p l e R s m args below meth c E D tA 4 k0 (s_J14_stringSize_16 E n a0 a1 a2 a3) [(0, zI a0), (1, zI a1), (2, zI a2), (3, zI a3)] 16 [] := by
  intro n
  induction n with
  | zero => intro a0 a1 a2 a3; exact z_fail
  | succ n h16 =>
    intro a0 a1 a2 a3
    rw [s_J14_stringSize_16]
    refine z_iload_n (pc := 16) x 3 dJ14_stringSize_16 rfl rfl ?_
    refine z_bipush (pc := 17) x (v := (10 : Int32)) dJ14_stringSize_17 rfl ?_
    refine z_icmp_ge (pc := 19) (tgt := 42) x dJ14_stringSize_19 rfl (fun _ => ?_) (fun _ => ?_)
    · refine z_bipush (pc := 42) x (v := (10 : Int32)) dJ14_stringSize_42 rfl ?_
      refine z_iload_n (pc := 44) x 1 dJ14_stringSize_44 rfl rfl ?_
      refine z_iadd (pc := 45) x dJ14_stringSize_45 ?_
      exact z_iret (pc := 46) x hret dJ14_stringSize_46
    · refine z_iload_n (pc := 22) x 0 dJ14_stringSize_22 rfl rfl ?_
      refine z_iload_n (pc := 23) x 2 dJ14_stringSize_23 rfl rfl ?_
      refine z_icmp_le (pc := 24) (tgt := 31) x dJ14_stringSize_24 rfl (fun _ => ?_) (fun _ => ?_)
      · refine z_bipush (pc := 31) x (v := (10 : Int32)) dJ14_stringSize_31 rfl ?_
        refine z_iload_n (pc := 33) x 2 dJ14_stringSize_33 rfl rfl ?_
        refine z_imul (pc := 34) x dJ14_stringSize_34 ?_
        refine z_istore_n (pc := 35) (lv' := [(2, zI ((10 : Int32) * a2)), (0, zI a0), (1, zI a1), (3, zI a3)]) x dJ14_stringSize_35 rfl (Nat.le_of_ble_eq_true rfl) rfl ?_
        refine z_iinc (pc := 36) (lv' := [(3, zI (a3 + (1 : Int32))), (2, zI ((10 : Int32) * a2)), (0, zI a0), (1, zI a1)]) x (v2 := (a3 + (1 : Int32))) 3 dJ14_stringSize_36 rfl rfl (Nat.le_of_ble_eq_true rfl) rfl ?_
        refine z_goto (pc := 39) (tgt := 16) x dJ14_stringSize_39 rfl ?_
        exact z_sub [2, 3, 1, 0] rfl (h16 a0 a1 ((10 : Int32) * a2) (a3 + (1 : Int32)))
      · refine z_iload_n (pc := 27) x 3 dJ14_stringSize_27 rfl rfl ?_
        refine z_iload_n (pc := 28) x 1 dJ14_stringSize_28 rfl rfl ?_
        refine z_iadd (pc := 29) x dJ14_stringSize_29 ?_
        exact z_iret (pc := 30) x hret dJ14_stringSize_30
def s_J14_stringSize_11 (E : zE) (a0 : Int32) (a1 : Int32) : zM := s_J14_stringSize_16 E zN a0 a1 (-10 : Int32) (1 : Int32)
theorem w_J14_stringSize_11 (x : zCx p l R s m args meth c E D tA cJ14_stringSize 4 yJ14_stringSize.cls 9) (hl : l.stackTraces = false) (hret : meth.sig.returnType = (Option.some Jvm.ClassFile.FieldType.int)) (hnm : meth.name = yJ14_stringSize.name) (htab : ∀ z ∈ c.exceptionTable.toList, False) (a0 : Int32) (a1 : Int32) : zW p l e R s m args below meth c E D tA 4 k0 (s_J14_stringSize_11 E a0 a1) [(0, zI a0), (1, zI a1)] 11 [] := by
  unfold s_J14_stringSize_11
  refine z_bipush (pc := 11) x (v := (-10 : Int32)) dJ14_stringSize_11 rfl ?_
  refine z_istore_n (pc := 13) (lv' := [(2, zI (-10 : Int32)), (0, zI a0), (1, zI a1)]) x dJ14_stringSize_13 rfl (Nat.le_of_ble_eq_true rfl) rfl ?_
  refine z_iconst (pc := 14) x (v := (1 : Int32)) dJ14_stringSize_14 rfl ?_
  refine z_istore_n (pc := 15) (lv' := [(3, zI (1 : Int32)), (2, zI (-10 : Int32)), (0, zI a0), (1, zI a1)]) x dJ14_stringSize_15 rfl (Nat.le_of_ble_eq_true rfl) rfl ?_
  exact z_sub [2, 3, 1, 0] rfl (w_J14_stringSize_16 x hl hret hnm htab zN a0 a1 (-10 : Int32) (1 : Int32))
def s_J14_stringSize (E : zE) (a0 : Int32) : zM := if a0 < 0 then (s_J14_stringSize_11 E a0 (1 : Int32)) else (s_J14_stringSize_11 E ((-a0)) (0 : Int32))
theorem m_J14_stringSize {l : Launch} {E : zE} {D : va_G} {tA : Nat → ClassId} (hl : l.stackTraces = false) (a0 : Int32) : zMet l E D tA yJ14_stringSize (ws_ yJ14_stringSize cJ14_stringSize 4 (Option.some Jvm.ClassFile.FieldType.int)) 9 (s_J14_stringSize E a0) [zI a0] := by
  refine z_met hl (by decide +kernel) (by rw [zSl_len]; exact (Nat.le_of_ble_eq_true rfl)) fun p e R s m args below meth c k0 x hret hnm htab => ?_
  refine z_lv [(0, zI a0)] rfl ?_
  unfold s_J14_stringSize
  refine z_iconst (pc := 0) x (v := (1 : Int32)) dJ14_stringSize_0 rfl ?_
  refine z_istore_n (pc := 1) (lv' := [(1, zI (1 : Int32)), (0, zI a0)]) x dJ14_stringSize_1 rfl (Nat.le_of_ble_eq_true rfl) rfl ?_
  refine z_iload_n (pc := 2) x 1 dJ14_stringSize_2 rfl rfl ?_
  refine z_if_lt (pc := 3) (tgt := 11) x dJ14_stringSize_3 rfl (fun _ => ?_) (fun _ => ?_)
  · exact z_sub [1, 0] rfl (w_J14_stringSize_11 x hl hret hnm htab a0 (1 : Int32))
  · refine z_iconst (pc := 6) x (v := (0 : Int32)) dJ14_stringSize_6 rfl ?_
    refine z_istore_n (pc := 7) (lv' := [(1, zI (0 : Int32)), (0, zI a0)]) x dJ14_stringSize_7 rfl (Nat.le_of_ble_eq_true rfl) rfl ?_
    refine z_iload_n (pc := 8) x 1 dJ14_stringSize_8 rfl rfl ?_
    refine z_ineg (pc := 9) x dJ14_stringSize_9 ?_
    refine z_istore_n (pc := 10) (lv' := [(0, zI ((-a0))), (1, zI (0 : Int32))]) x dJ14_stringSize_10 rfl (Nat.le_of_ble_eq_true rfl) rfl ?_
    exact z_sub [0, 1] rfl (w_J14_stringSize_11 x hl hret hnm htab ((-a0)) (0 : Int32))
/-! J14_getChars -/
def s_J14_getChars_104 (E : zE) (a2 : Option Nat) (a5 : Int32) (a6 : Int32) : zM := if a6 = 0 then (zRet (some (.int a5))) else (zSaI E 1 a2 (a5 + (-1 : Int32)) (vp_nar .byte (45 : Int32)) (zRet (some (.int (a5 + (-1 : Int32))))))
theorem w_J14_getChars_104 (x : zCx p l R s m args meth c E D tA cJ14_getChars 7 yJ14_getChars.cls 9) (hl : l.stackTraces = false) (hret : meth.sig.returnType = (Option.some Jvm.ClassFile.FieldType.int)) (hnm : meth.name = yJ14_getChars.name) (htab : ∀ z ∈ c.exceptionTable.toList, False) (a2 : Option Nat) (a5 : Int32) (a6 : Int32) : zW p l e R s m args below meth c E D tA 7 k0 (s_J14_getChars_104 E a2 a5 a6) [(2, zP a2), (5, zI a5), (6, zI a6)] 104 [] := by
  unfold s_J14_getChars_104
  refine z_iload (pc := 104) x 2 dJ14_getChars_104 rfl ?_
  refine z_if_eq (pc := 106) (tgt := 118) x dJ14_getChars_106 rfl (fun _ => ?_) (fun _ => ?_)
  · refine z_iload (pc := 118) x 1 dJ14_getChars_118 rfl ?_
    exact z_iret (pc := 120) x hret dJ14_getChars_120
  · refine z_aload_n (pc := 109) x 0 dJ14_getChars_109 rfl rfl ?_
    refine z_iinc (pc := 110) (lv' := [(5, zI (a5 + (-1 : Int32))), (2, zP a2), (6, zI a6)]) x (v2 := (a5 + (-1 : Int32))) 1 dJ14_getChars_110 rfl rfl (Nat.le_of_ble_eq_true rfl) rfl ?_
    refine z_iload (pc := 113) x 0 dJ14_getChars_113 rfl ?_
    refine z_bipush (pc := 115) x (v := (45 : Int32)) dJ14_getChars_115 rfl ?_
    refine z_bast (pc := 117) x (t := 1) rfl dJ14_getChars_117 ?_
    refine z_iload (pc := 118) x 0 dJ14_getChars_118 rfl ?_
    exact z_iret (pc := 120) x hret dJ14_getChars_120
def s_J14_getChars_22 (E : zE) : Nat → Int32 → Option Nat → Int32 → Int32 → zM
  | 0, _, _, _, _ => zFail
  | n + 1, a0, a2, a5, a6 => if (-100 : Int32) < a0 then (zGaI 1 (some (E 1)) ((-a0)) (fun v83 => zSaI E 1 a2 (a5 + (-1 : Int32)) (vp_nar .byte v83) (if (-9 : Int32) ≤ a0 then (s_J14_getChars_104 E a2 (a5 + (-1 : Int32)) a6) else (zGaI 1 (some (E 2)) ((-a0)) (fun v102 => zSaI E 1 a2 ((a5 + (-1 : Int32)) + (-1 : Int32)) (vp_nar .byte v102) (s_J14_getChars_104 E a2 ((a5 + (-1 : Int32)) + (-1 : Int32)) a6)))))) else (zDiv a0 (100 : Int32) (fun v31 => zGaI 1 (some (E 1)) ((v31 * (100 : Int32)) - a0) (fun v54 => zSaI E 1 a2 (a5 + (-1 : Int32)) (vp_nar .byte v54) (zGaI 1 (some (E 2)) ((v31 * (100 : Int32)) - a0) (fun v67 => zSaI E 1 a2 ((a5 + (-1 : Int32)) + (-1 : Int32)) (vp_nar .byte v67) ((s_J14_getChars_22 E n) v31 a2 ((a5 + (-1 : Int32)) + (-1 : Int32)) a6))))))
theorem w_J14_getChars_22 (x : zCx p l R s m args meth c E D tA cJ14_getChars 7 yJ14_getChars.cls 9) (hl : l.stackTraces = false) (hret : meth.sig.returnType = (Option.some Jvm.ClassFile.FieldType.int)) (hnm : meth.name = yJ14_getChars.name) (htab : ∀ z ∈ c.exceptionTable.toList, False) : ∀ (n : Nat) (a0 : Int32) (a2 : Option Nat) (a5 : Int32) (a6 : Int32), zW p l e R s m args below meth c E D tA 7 k0 (s_J14_getChars_22 E n a0 a2 a5 a6) [(0, zI a0), (2, zP a2), (5, zI a5), (6, zI a6)] 22 [] := by
  intro n
  induction n with
  | zero => intro a0 a2 a5 a6; exact z_fail
  | succ n h22 =>
    intro a0 a2 a5 a6
    rw [s_J14_getChars_22]
    refine z_iload_n (pc := 22) x 0 dJ14_getChars_22 rfl rfl ?_
    refine z_bipush (pc := 23) x (v := (-100 : Int32)) dJ14_getChars_23 rfl ?_
    refine z_icmp_gt (pc := 25) (tgt := 72) x dJ14_getChars_25 rfl (fun _ => ?_) (fun _ => ?_)
    · refine z_aload_n (pc := 72) x 1 dJ14_getChars_72 rfl rfl ?_
      refine z_iinc (pc := 73) (lv' := [(5, zI (a5 + (-1 : Int32))), (0, zI a0), (2, zP a2), (6, zI a6)]) x (v2 := (a5 + (-1 : Int32))) 2 dJ14_getChars_73 rfl rfl (Nat.le_of_ble_eq_true rfl) rfl ?_
      refine z_iload (pc := 76) x 0 dJ14_getChars_76 rfl ?_
      refine z_staR (pc := 78) x (k := 1) (by decide) q1361 dJ14_getChars_78 ?_
      refine z_iload_n (pc := 81) x 1 dJ14_getChars_81 rfl rfl ?_
      refine z_ineg (pc := 82) x dJ14_getChars_82 ?_
      refine z_bald (pc := 83) x (t := 1) rfl dJ14_getChars_83 fun v83 => ?_
      refine z_bast (pc := 84) x (t := 1) rfl dJ14_getChars_84 ?_
      refine z_iload_n (pc := 85) x 1 dJ14_getChars_85 rfl rfl ?_
      refine z_bipush (pc := 86) x (v := (-9 : Int32)) dJ14_getChars_86 rfl ?_
      refine z_icmp_ge (pc := 88) (tgt := 104) x dJ14_getChars_88 rfl (fun _ => ?_) (fun _ => ?_)
      · exact z_sub [2, 0, 3] rfl (w_J14_getChars_104 x hl hret hnm htab a2 (a5 + (-1 : Int32)) a6)
      · refine z_aload_n (pc := 91) x 2 dJ14_getChars_91 rfl rfl ?_
        refine z_iinc (pc := 92) (lv' := [(5, zI ((a5 + (-1 : Int32)) + (-1 : Int32))), (0, zI a0), (2, zP a2), (6, zI a6)]) x (v2 := ((a5 + (-1 : Int32)) + (-1 : Int32))) 0 dJ14_getChars_92 rfl rfl (Nat.le_of_ble_eq_true rfl) rfl ?_
        refine z_iload (pc := 95) x 0 dJ14_getChars_95 rfl ?_
        refine z_staR (pc := 97) x (k := 2) (by decide) q1363 dJ14_getChars_97 ?_
        refine z_iload_n (pc := 100) x 1 dJ14_getChars_100 rfl rfl ?_
        refine z_ineg (pc := 101) x dJ14_getChars_101 ?_
        refine z_bald (pc := 102) x (t := 1) rfl dJ14_getChars_102 fun v102 => ?_
        refine z_bast (pc := 103) x (t := 1) rfl dJ14_getChars_103 ?_
        exact z_sub [2, 0, 3] rfl (w_J14_getChars_104 x hl hret hnm htab a2 ((a5 + (-1 : Int32)) + (-1 : Int32)) a6)
    · refine z_iload_n (pc := 28) x 0 dJ14_getChars_28 rfl rfl ?_
      refine z_bipush (pc := 29) x (v := (100 : Int32)) dJ14_getChars_29 rfl ?_
      refine z_idiv (pc := 31) x dJ14_getChars_31 fun v31 => ?_
      refine z_istore_n (pc := 32) (lv' := [(3, zI v31), (0, zI a0), (2, zP a2), (5, zI a5), (6, zI a6)]) x dJ14_getChars_32 rfl (Nat.le_of_ble_eq_true rfl) rfl ?_
      refine z_iload_n (pc := 33) x 0 dJ14_getChars_33 rfl rfl ?_
      refine z_bipush (pc := 34) x (v := (100 : Int32)) dJ14_getChars_34 rfl ?_
      refine z_imul (pc := 36) x dJ14_getChars_36 ?_
      refine z_iload_n (pc := 37) x 1 dJ14_getChars_37 rfl rfl ?_
      refine z_isub (pc := 38) x dJ14_getChars_38 ?_
      refine z_istore (pc := 39) (lv' := [(4, zI ((v31 * (100 : Int32)) - a0)), (3, zI v31), (0, zI a0), (2, zP a2), (5, zI a5), (6, zI a6)]) x dJ14_getChars_39 (Nat.le_of_ble_eq_true rfl) rfl ?_
      refine z_iload_n (pc := 41) x 1 dJ14_getChars_41 rfl rfl ?_
      refine z_istore_n (pc := 42) (lv' := [(0, zI v31), (4, zI ((v31 * (100 : Int32)) - a0)), (3, zI v31), (2, zP a2), (5, zI a5), (6, zI a6)]) x dJ14_getChars_42 rfl (Nat.le_of_ble_eq_true rfl) rfl ?_
      refine z_aload_n (pc := 43) x 3 dJ14_getChars_43 rfl rfl ?_
      refine z_iinc (pc := 44) (lv' := [(5, zI (a5 + (-1 : Int32))), (0, zI v31), (4, zI ((v31 * (100 : Int32)) - a0)), (3, zI v31), (2, zP a2), (6, zI a6)]) x (v2 := (a5 + (-1 : Int32))) 4 dJ14_getChars_44 rfl rfl (Nat.le_of_ble_eq_true rfl) rfl ?_
      refine z_iload (pc := 47) x 0 dJ14_getChars_47 rfl ?_
      refine z_staR (pc := 49) x (k := 1) (by decide) q1361 dJ14_getChars_49 ?_
      refine z_iload (pc := 52) x 2 dJ14_getChars_52 rfl ?_
      refine z_bald (pc := 54) x (t := 1) rfl dJ14_getChars_54 fun v54 => ?_
      refine z_bast (pc := 55) x (t := 1) rfl dJ14_getChars_55 ?_
      refine z_aload_n (pc := 56) x 4 dJ14_getChars_56 rfl rfl ?_
      refine z_iinc (pc := 57) (lv' := [(5, zI ((a5 + (-1 : Int32)) + (-1 : Int32))), (0, zI v31), (4, zI ((v31 * (100 : Int32)) - a0)), (3, zI v31), (2, zP a2), (6, zI a6)]) x (v2 := ((a5 + (-1 : Int32)) + (-1 : Int32))) 0 dJ14_getChars_57 rfl rfl (Nat.le_of_ble_eq_true rfl) rfl ?_
      refine z_iload (pc := 60) x 0 dJ14_getChars_60 rfl ?_
      refine z_staR (pc := 62) x (k := 2) (by decide) q1363 dJ14_getChars_62 ?_
      refine z_iload (pc := 65) x 2 dJ14_getChars_65 rfl ?_
      refine z_bald (pc := 67) x (t := 1) rfl dJ14_getChars_67 fun v67 => ?_
      refine z_bast (pc := 68) x (t := 1) rfl dJ14_getChars_68 ?_
      refine z_goto (pc := 69) (tgt := 22) x dJ14_getChars_69 rfl ?_
      exact z_sub [1, 4, 0, 5] rfl (h22 v31 a2 ((a5 + (-1 : Int32)) + (-1 : Int32)) a6)
def s_J14_getChars_12 (E : zE) (a0 : Int32) (a2 : Option Nat) (a5 : Int32) (b0 : Int32) : zM := if b0 = 0 then (s_J14_getChars_22 E zN ((-a0)) a2 a5 b0) else (s_J14_getChars_22 E zN a0 a2 a5 b0)
theorem w_J14_getChars_12 (x : zCx p l R s m args meth c E D tA cJ14_getChars 7 yJ14_getChars.cls 9) (hl : l.stackTraces = false) (hret : meth.sig.returnType = (Option.some Jvm.ClassFile.FieldType.int)) (hnm : meth.name = yJ14_getChars.name) (htab : ∀ z ∈ c.exceptionTable.toList, False) (a0 : Int32) (a2 : Option Nat) (a5 : Int32) (b0 : Int32) : zW p l e R s m args below meth c E D tA 7 k0 (s_J14_getChars_12 E a0 a2 a5 b0) [(0, zI a0), (2, zP a2), (5, zI a5)] 12 [zI b0] := by
  unfold s_J14_getChars_12
  refine z_istore (pc := 12) (lv' := [(6, zI b0), (0, zI a0), (2, zP a2), (5, zI a5)]) x dJ14_getChars_12 (Nat.le_of_ble_eq_true rfl) rfl ?_
  refine z_iload (pc := 14) x 0 dJ14_getChars_14 rfl ?_
  refine z_if_ne (pc := 16) (tgt := 22) x dJ14_getChars_16 rfl (fun _ => ?_) (fun _ => ?_)
  · refine z_iload_n (pc := 19) x 1 dJ14_getChars_19 rfl rfl ?_
    refine z_ineg (pc := 20) x dJ14_getChars_20 ?_
    refine z_istore_n (pc := 21) (lv' := [(0, zI ((-a0))), (6, zI b0), (2, zP a2), (5, zI a5)]) x dJ14_getChars_21 rfl (Nat.le_of_ble_eq_true rfl) rfl ?_
    exact z_sub [0, 2, 3, 1] rfl (w_J14_getChars_22 x hl hret hnm htab zN ((-a0)) a2 a5 b0)
  · exact z_sub [1, 2, 3, 0] rfl (w_J14_getChars_22 x hl hret hnm htab zN a0 a2 a5 b0)
def s_J14_getChars (E : zE) (a0 : Int32) (a1 : Int32) (a2 : Option Nat) : zM := if 0 ≤ a0 then (s_J14_getChars_12 E a0 a2 a1 (0 : Int32)) else (s_J14_getChars_12 E a0 a2 a1 (1 : Int32))
theorem m_J14_getChars {l : Launch} {E : zE} {D : va_G} {tA : Nat → ClassId} (hl : l.stackTraces = false) (a0 : Int32) (a1 : Int32) (a2 : Option Nat) : zMet l E D tA yJ14_getChars (ws_ yJ14_getChars cJ14_getChars 7 (Option.some Jvm.ClassFile.FieldType.int)) 9 (s_J14_getChars E a0 a1 a2) [zI a0, zI a1, zP a2] := by
  refine z_met hl (by decide +kernel) (by rw [zSl_len]; exact (Nat.le_of_ble_eq_true rfl)) fun p e R s m args below meth c k0 x hret hnm htab => ?_
  refine z_lv [(0, zI a0), (1, zI a1), (2, zP a2)] rfl ?_
  unfold s_J14_getChars
  refine z_iload_n (pc := 0) x 1 dJ14_getChars_0 rfl rfl ?_
  refine z_istore (pc := 1) (lv' := [(5, zI a1), (0, zI a0), (1, zI a1), (2, zP a2)]) x dJ14_getChars_1 (Nat.le_of_ble_eq_true rfl) rfl ?_
  refine z_iload_n (pc := 3) x 1 dJ14_getChars_3 rfl rfl ?_
  refine z_if_ge (pc := 4) (tgt := 11) x dJ14_getChars_4 rfl (fun _ => ?_) (fun _ => ?_)
  · refine z_iconst (pc := 11) x (v := (0 : Int32)) dJ14_getChars_11 rfl ?_
    exact z_sub [1, 3, 0] rfl (w_J14_getChars_12 x hl hret hnm htab a0 a2 a1 (0 : Int32))
  · refine z_iconst (pc := 7) x (v := (1 : Int32)) dJ14_getChars_7 rfl ?_
    refine z_goto (pc := 8) (tgt := 12) x dJ14_getChars_8 rfl ?_
    exact z_sub [1, 3, 0] rfl (w_J14_getChars_12 x hl hret hnm htab a0 a2 a1 (1 : Int32))
/-! J7_checkBoundsBeginEnd -/
def s_J7_checkBoundsBeginEnd (E : zE) (a0 : Int32) (a1 : Int32) (a2 : Option Nat) : zM := zC (s_J7_length E a2) zThr (zKI (fun v3 => zC (s_J6_checkBoundsBeginEnd E a0 a1 v3) zThr (zKV (zRet none))))
theorem m_J7_checkBoundsBeginEnd {l : Launch} {E : zE} {D : va_G} {tA : Nat → ClassId} (hl : l.stackTraces = false) (a0 : Int32) (a1 : Int32) (a2 : Option Nat) : zMet l E D tA yJ7_checkBoundsBeginEnd (ws_ yJ7_checkBoundsBeginEnd cJ7_checkBoundsBeginEnd 3 (Option.none : Option Jvm.ClassFile.FieldType)) 11 (s_J7_checkBoundsBeginEnd E a0 a1 a2) [zI a0, zI a1, zP a2] := by
  refine z_met hl (by decide +kernel) (by rw [zSl_len]; exact (Nat.le_of_ble_eq_true rfl)) fun p e R s m args below meth c k0 x hret hnm htab => ?_
  refine z_lv [(0, zI a0), (1, zI a1), (2, zP a2)] rfl ?_
  unfold s_J7_checkBoundsBeginEnd
  refine z_iload_n (pc := 0) x 0 dJ7_checkBoundsBeginEnd_0 rfl rfl ?_
  refine z_iload_n (pc := 1) x 1 dJ7_checkBoundsBeginEnd_1 rfl rfl ?_
  refine z_aload_n (pc := 2) x 2 dJ7_checkBoundsBeginEnd_2 rfl rfl ?_
  refine z_call (pc := 3) (z_canS (pc := 3) (As := [zP a2]) (st := [zI a1, zI a0]) x (m_J7_length hl a2) q1262 q1263 q120 q1264 n_J7_length ⟨by decide, by decide⟩ (Nat.le_of_ble_eq_true rfl) dJ7_checkBoundsBeginEnd_3) (zv_I fun v3 => ?_) (fun q => zx_thr x (fun z hz => (htab z hz).elim) q)
  refine z_call (pc := 6) (z_canS (pc := 6) (As := [zI a0, zI a1, zI v3]) (st := []) x (m_J6_checkBoundsBeginEnd hl a0 a1 v3) q1265 q1266 q119 q1267 n_J6_checkBoundsBeginEnd ⟨by decide, by decide⟩ (Nat.le_of_ble_eq_true rfl) dJ7_checkBoundsBeginEnd_6) (zv_V ?_) (fun q => zx_thr x (fun z hz => (htab z hz).elim) q)
  exact z_vret (pc := 9) x hret dJ7_checkBoundsBeginEnd_9
/-! J7_getChars_2 -/
def s_J7_getChars_2_112 (E : zE) (a2 : Option Nat) (a5 : Int32) (a6 : Int32) : zM := if a6 = 0 then (zRet (some (.int a5))) else (zC (s_J7_putChar E a2 (a5 + (-1 : Int32)) (45 : Int32)) zThr (zKV (zRet (some (.int (a5 + (-1 : Int32)))))))
theorem w_J7_getChars_2_112 (x : zCx p l R s m args meth c E D tA cJ7_getChars_2 7 yJ7_getChars_2.cls 11) (hl : l.stackTraces = false) (hret : meth.sig.returnType = (Option.some Jvm.ClassFile.FieldType.int)) (hnm : meth.name = yJ7_getChars_2.name) (htab : ∀ z ∈ c.exceptionTable.toList, False) (a2 : Option Nat) (a5 : Int32) (a6 : Int32) : zW p l e R s m args below meth c E D tA 7 k0 (s_J7_getChars_2_112 E a2 a5 a6) [(2, zP a2), (5, zI a5), (6, zI a6)] 112 [] := by
  unfold s_J7_getChars_2_112
  refine z_iload (pc := 112) x 2 dJ7_getChars_2_112 rfl ?_
  refine z_if_eq (pc := 114) (tgt := 128) x dJ7_getChars_2_114 rfl (fun _ => ?_) (fun _ => ?_)
  · refine z_iload (pc := 128) x 1 dJ7_getChars_2_128 rfl ?_
    exact z_iret (pc := 130) x hret dJ7_getChars_2_130
  · refine z_aload_n (pc := 117) x 0 dJ7_getChars_2_117 rfl rfl ?_
    refine z_iinc (pc := 118) (lv' := [(5, zI (a5 + (-1 : Int32))), (2, zP a2), (6, zI a6)]) x (v2 := (a5 + (-1 : Int32))) 1 dJ7_getChars_2_118 rfl rfl (Nat.le_of_ble_eq_true rfl) rfl ?_
    refine z_iload (pc := 121) x 0 dJ7_getChars_2_121 rfl ?_
    refine z_bipush (pc := 123) x (v := (45 : Int32)) dJ7_getChars_2_123 rfl ?_
    refine z_call (pc := 125) (z_canS (pc := 125) (As := [zP a2, zI (a5 + (-1 : Int32)), zI (45 : Int32)]) (st := []) x (m_J7_putChar hl a2 (a5 + (-1 : Int32)) (45 : Int32)) q1273 q1274 q120 q1275 n_J7_putChar ⟨by decide, by decide⟩ (Nat.le_of_ble_eq_true rfl) dJ7_getChars_2_125) (zv_V ?_) (fun q => zx_thr x (fun z hz => (htab z hz).elim) q)
    refine z_iload (pc := 128) x 0 dJ7_getChars_2_128 rfl ?_
    exact z_iret (pc := 130) x hret dJ7_getChars_2_130
def s_J7_getChars_2_22 (E : zE) : Nat → Int32 → Option Nat → Int32 → Int32 → zM
  | 0, _, _, _, _ => zFail
  | n + 1, a0, a2, a5, a6 => if (-100 : Int32) < a0 then (zGaI 1 (some (E 1)) ((-a0)) (fun v87 => zC (s_J7_putChar E a2 (a5 + (-1 : Int32)) v87) zThr (zKV (if (-9 : Int32) ≤ a0 then (s_J7_getChars_2_112 E a2 (a5 + (-1 : Int32)) a6) else (zGaI 1 (some (E 2)) ((-a0)) (fun v108 => zC (s_J7_putChar E a2 ((a5 + (-1 : Int32)) + (-1 : Int32)) v108) zThr (zKV (s_J7_getChars_2_112 E a2 ((a5 + (-1 : Int32)) + (-1 : Int32)) a6)))))))) else (zDiv a0 (100 : Int32) (fun v31 => zGaI 1 (some (E 1)) ((v31 * (100 : Int32)) - a0) (fun v54 => zC (s_J7_putChar E a2 (a5 + (-1 : Int32)) v54) zThr (zKV (zGaI 1 (some (E 2)) ((v31 * (100 : Int32)) - a0) (fun v69 => zC (s_J7_putChar E a2 ((a5 + (-1 : Int32)) + (-1 : Int32)) v69) zThr (zKV ((s_J7_getChars_2_22 E n) v31 a2 ((a5 + (-1 : Int32)) + (-1 : Int32)) a6))))))))
theorem w_J7_getChars_2_22 (x : zCx p l R s m args meth c E D tA cJ7_getChars_2 7 yJ7_getChars_2.cls 11) (hl : l.stackTraces = false) (hret : meth.sig.returnType = (Option.some Jvm.ClassFile.FieldType.int)) (hnm : meth.name = yJ7_getChars_2.name) (htab : ∀ z ∈ c.exceptionTable.toList, False) : ∀ (n : Nat) (a0 : Int32) (a2 : Option Nat) (a5 : Int32) (a6 : Int32), zW p l e R s m args below meth c E D tA 7 k0 (s_J7_getChars_2_22 E n a0 a2 a5 a6) [(0, zI a0), (2, zP a2), (5, zI a5), (6, zI a6)] 22 [] := by
  intro n
  induction n with
  | zero => intro a0 a2 a5 a6; exact z_fail
  | succ n h22 =>
    intro a0 a2 a5 a6
    rw [s_J7_getChars_2_22]
    refine z_iload_n (pc := 22) x 0 dJ7_getChars_2_22 rfl rfl ?_
    refine z_bipush (pc := 23) x (v := (-100 : Int32)) dJ7_getChars_2_23 rfl ?_
    refine z_icmp_gt (pc := 25) (tgt := 76) x dJ7_getChars_2_25 rfl (fun _ => ?_) (fun _ => ?_)
    · refine z_aload_n (pc := 76) x 1 dJ7_getChars_2_76 rfl rfl ?_
      refine z_iinc (pc := 77) (lv' := [(5, zI (a5 + (-1 : Int32))), (0, zI a0), (2, zP a2), (6, zI a6)]) x (v2 := (a5 + (-1 : Int32))) 2 dJ7_getChars_2_77 rfl rfl (Nat.le_of_ble_eq_true rfl) rfl ?_
      refine z_iload (pc := 80) x 0 dJ7_getChars_2_80 rfl ?_
      refine z_staR (pc := 82) x (k := 1) (by decide) q1371 dJ7_getChars_2_82 ?_
      refine z_iload_n (pc := 85) x 1 dJ7_getChars_2_85 rfl rfl ?_
      refine z_ineg (pc := 86) x dJ7_getChars_2_86 ?_
      refine z_bald (pc := 87) x (t := 1) rfl dJ7_getChars_2_87 fun v87 => ?_
      refine z_call (pc := 88) (z_canS (pc := 88) (As := [zP a2, zI (a5 + (-1 : Int32)), zI v87]) (st := []) x (m_J7_putChar hl a2 (a5 + (-1 : Int32)) v87) q1273 q1274 q120 q1275 n_J7_putChar ⟨by decide, by decide⟩ (Nat.le_of_ble_eq_true rfl) dJ7_getChars_2_88) (zv_V ?_) (fun q => zx_thr x (fun z hz => (htab z hz).elim) q)
      refine z_iload_n (pc := 91) x 1 dJ7_getChars_2_91 rfl rfl ?_
      refine z_bipush (pc := 92) x (v := (-9 : Int32)) dJ7_getChars_2_92 rfl ?_
      refine z_icmp_ge (pc := 94) (tgt := 112) x dJ7_getChars_2_94 rfl (fun _ => ?_) (fun _ => ?_)
      · exact z_sub [2, 0, 3] rfl (w_J7_getChars_2_112 x hl hret hnm htab a2 (a5 + (-1 : Int32)) a6)
      · refine z_aload_n (pc := 97) x 2 dJ7_getChars_2_97 rfl rfl ?_
        refine z_iinc (pc := 98) (lv' := [(5, zI ((a5 + (-1 : Int32)) + (-1 : Int32))), (0, zI a0), (2, zP a2), (6, zI a6)]) x (v2 := ((a5 + (-1 : Int32)) + (-1 : Int32))) 0 dJ7_getChars_2_98 rfl rfl (Nat.le_of_ble_eq_true rfl) rfl ?_
        refine z_iload (pc := 101) x 0 dJ7_getChars_2_101 rfl ?_
        refine z_staR (pc := 103) x (k := 2) (by decide) q1372 dJ7_getChars_2_103 ?_
        refine z_iload_n (pc := 106) x 1 dJ7_getChars_2_106 rfl rfl ?_
        refine z_ineg (pc := 107) x dJ7_getChars_2_107 ?_
        refine z_bald (pc := 108) x (t := 1) rfl dJ7_getChars_2_108 fun v108 => ?_
        refine z_call (pc := 109) (z_canS (pc := 109) (As := [zP a2, zI ((a5 + (-1 : Int32)) + (-1 : Int32)), zI v108]) (st := []) x (m_J7_putChar hl a2 ((a5 + (-1 : Int32)) + (-1 : Int32)) v108) q1273 q1274 q120 q1275 n_J7_putChar ⟨by decide, by decide⟩ (Nat.le_of_ble_eq_true rfl) dJ7_getChars_2_109) (zv_V ?_) (fun q => zx_thr x (fun z hz => (htab z hz).elim) q)
        exact z_sub [2, 0, 3] rfl (w_J7_getChars_2_112 x hl hret hnm htab a2 ((a5 + (-1 : Int32)) + (-1 : Int32)) a6)
    · refine z_iload_n (pc := 28) x 0 dJ7_getChars_2_28 rfl rfl ?_
      refine z_bipush (pc := 29) x (v := (100 : Int32)) dJ7_getChars_2_29 rfl ?_
      refine z_idiv (pc := 31) x dJ7_getChars_2_31 fun v31 => ?_
      refine z_istore_n (pc := 32) (lv' := [(3, zI v31), (0, zI a0), (2, zP a2), (5, zI a5), (6, zI a6)]) x dJ7_getChars_2_32 rfl (Nat.le_of_ble_eq_true rfl) rfl ?_
      refine z_iload_n (pc := 33) x 0 dJ7_getChars_2_33 rfl rfl ?_
      refine z_bipush (pc := 34) x (v := (100 : Int32)) dJ7_getChars_2_34 rfl ?_
      refine z_imul (pc := 36) x dJ7_getChars_2_36 ?_
      refine z_iload_n (pc := 37) x 1 dJ7_getChars_2_37 rfl rfl ?_
      refine z_isub (pc := 38) x dJ7_getChars_2_38 ?_
      refine z_istore (pc := 39) (lv' := [(4, zI ((v31 * (100 : Int32)) - a0)), (3, zI v31), (0, zI a0), (2, zP a2), (5, zI a5), (6, zI a6)]) x dJ7_getChars_2_39 (Nat.le_of_ble_eq_true rfl) rfl ?_
      refine z_iload_n (pc := 41) x 1 dJ7_getChars_2_41 rfl rfl ?_
      refine z_istore_n (pc := 42) (lv' := [(0, zI v31), (4, zI ((v31 * (100 : Int32)) - a0)), (3, zI v31), (2, zP a2), (5, zI a5), (6, zI a6)]) x dJ7_getChars_2_42 rfl (Nat.le_of_ble_eq_true rfl) rfl ?_
      refine z_aload_n (pc := 43) x 3 dJ7_getChars_2_43 rfl rfl ?_
      refine z_iinc (pc := 44) (lv' := [(5, zI (a5 + (-1 : Int32))), (0, zI v31), (4, zI ((v31 * (100 : Int32)) - a0)), (3, zI v31), (2, zP a2), (6, zI a6)]) x (v2 := (a5 + (-1 : Int32))) 4 dJ7_getChars_2_44 rfl rfl (Nat.le_of_ble_eq_true rfl) rfl ?_
      refine z_iload (pc := 47) x 0 dJ7_getChars_2_47 rfl ?_
      refine z_staR (pc := 49) x (k := 1) (by decide) q1371 dJ7_getChars_2_49 ?_
      refine z_iload (pc := 52) x 2 dJ7_getChars_2_52 rfl ?_
      refine z_bald (pc := 54) x (t := 1) rfl dJ7_getChars_2_54 fun v54 => ?_
      refine z_call (pc := 55) (z_canS (pc := 55) (As := [zP a2, zI (a5 + (-1 : Int32)), zI v54]) (st := []) x (m_J7_putChar hl a2 (a5 + (-1 : Int32)) v54) q1273 q1274 q120 q1275 n_J7_putChar ⟨by decide, by decide⟩ (Nat.le_of_ble_eq_true rfl) dJ7_getChars_2_55) (zv_V ?_) (fun q => zx_thr x (fun z hz => (htab z hz).elim) q)
      refine z_aload_n (pc := 58) x 4 dJ7_getChars_2_58 rfl rfl ?_
      refine z_iinc (pc := 59) (lv' := [(5, zI ((a5 + (-1 : Int32)) + (-1 : Int32))), (0, zI v31), (4, zI ((v31 * (100 : Int32)) - a0)), (3, zI v31), (2, zP a2), (6, zI a6)]) x (v2 := ((a5 + (-1 : Int32)) + (-1 : Int32))) 0 dJ7_getChars_2_59 rfl rfl (Nat.le_of_ble_eq_true rfl) rfl ?_
      refine z_iload (pc := 62) x 0 dJ7_getChars_2_62 rfl ?_
      refine z_staR (pc := 64) x (k := 2) (by decide) q1372 dJ7_getChars_2_64 ?_
      refine z_iload (pc := 67) x 2 dJ7_getChars_2_67 rfl ?_
      refine z_bald (pc := 69) x (t := 1) rfl dJ7_getChars_2_69 fun v69 => ?_
      refine z_call (pc := 70) (z_canS (pc := 70) (As := [zP a2, zI ((a5 + (-1 : Int32)) + (-1 : Int32)), zI v69]) (st := []) x (m_J7_putChar hl a2 ((a5 + (-1 : Int32)) + (-1 : Int32)) v69) q1273 q1274 q120 q1275 n_J7_putChar ⟨by decide, by decide⟩ (Nat.le_of_ble_eq_true rfl) dJ7_getChars_2_70) (zv_V ?_) (fun q => zx_thr x (fun z hz => (htab z hz).elim) q)
      refine z_goto (pc := 73) (tgt := 22) x dJ7_getChars_2_73 rfl ?_
      exact z_sub [1, 4, 0, 5] rfl (h22 v31 a2 ((a5 + (-1 : Int32)) + (-1 : Int32)) a6)
def s_J7_getChars_2_12 (E : zE) (a0 : Int32) (a2 : Option Nat) (a5 : Int32) (b0 : Int32) : zM := if b0 = 0 then (s_J7_getChars_2_22 E zN ((-a0)) a2 a5 b0) else (s_J7_getChars_2_22 E zN a0 a2 a5 b0)
theorem w_J7_getChars_2_12 (x : zCx p l R s m args meth c E D tA cJ7_getChars_2 7 yJ7_getChars_2.cls 11) (hl : l.stackTraces = false) (hret : meth.sig.returnType = (Option.some Jvm.ClassFile.FieldType.int)) (hnm : meth.name = yJ7_getChars_2.name) (htab : ∀ z ∈ c.exceptionTable.toList, False) (a0 : Int32) (a2 : Option Nat) (a5 : Int32) (b0 : Int32) : zW p l e R s m args below meth c E D tA 7 k0 (s_J7_getChars_2_12 E a0 a2 a5 b0) [(0, zI a0), (2, zP a2), (5, zI a5)] 12 [zI b0] := by
  unfold s_J7_getChars_2_12
  refine z_istore (pc := 12) (lv' := [(6, zI b0), (0, zI a0), (2, zP a2), (5, zI a5)]) x dJ7_getChars_2_12 (Nat.le_of_ble_eq_true rfl) rfl ?_
  refine z_iload (pc := 14) x 0 dJ7_getChars_2_14 rfl ?_
  refine z_if_ne (pc := 16) (tgt := 22) x dJ7_getChars_2_16 rfl (fun _ => ?_) (fun _ => ?_)
  · refine z_iload_n (pc := 19) x 1 dJ7_getChars_2_19 rfl rfl ?_
    refine z_ineg (pc := 20) x dJ7_getChars_2_20 ?_
    refine z_istore_n (pc := 21) (lv' := [(0, zI ((-a0))), (6, zI b0), (2, zP a2), (5, zI a5)]) x dJ7_getChars_2_21 rfl (Nat.le_of_ble_eq_true rfl) rfl ?_
    exact z_sub [0, 2, 3, 1] rfl (w_J7_getChars_2_22 x hl hret hnm htab zN ((-a0)) a2 a5 b0)
  · exact z_sub [1, 2, 3, 0] rfl (w_J7_getChars_2_22 x hl hret hnm htab zN a0 a2 a5 b0)
def s_J7_getChars_2 (E : zE) (a0 : Int32) (a1 : Int32) (a2 : Option Nat) : zM := if 0 ≤ a0 then (s_J7_getChars_2_12 E a0 a2 a1 (0 : Int32)) else (s_J7_getChars_2_12 E a0 a2 a1 (1 : Int32))
theorem m_J7_getChars_2 {l : Launch} {E : zE} {D : va_G} {tA : Nat → ClassId} (hl : l.stackTraces = false) (a0 : Int32) (a1 : Int32) (a2 : Option Nat) : zMet l E D tA yJ7_getChars_2 (ws_ yJ7_getChars_2 cJ7_getChars_2 7 (Option.some Jvm.ClassFile.FieldType.int)) 11 (s_J7_getChars_2 E a0 a1 a2) [zI a0, zI a1, zP a2] := by
  refine z_met hl (by decide +kernel) (by rw [zSl_len]; exact (Nat.le_of_ble_eq_true rfl)) fun p e R s m args below meth c k0 x hret hnm htab => ?_
  refine z_lv [(0, zI a0), (1, zI a1), (2, zP a2)] rfl ?_
  unfold s_J7_getChars_2
  refine z_iload_n (pc := 0) x 1 dJ7_getChars_2_0 rfl rfl ?_
  refine z_istore (pc := 1) (lv' := [(5, zI a1), (0, zI a0), (1, zI a1), (2, zP a2)]) x dJ7_getChars_2_1 (Nat.le_of_ble_eq_true rfl) rfl ?_
  refine z_iload_n (pc := 3) x 1 dJ7_getChars_2_3 rfl rfl ?_
  refine z_if_ge (pc := 4) (tgt := 11) x dJ7_getChars_2_4 rfl (fun _ => ?_) (fun _ => ?_)
  · refine z_iconst (pc := 11) x (v := (0 : Int32)) dJ7_getChars_2_11 rfl ?_
    exact z_sub [1, 3, 0] rfl (w_J7_getChars_2_12 x hl hret hnm htab a0 a2 a1 (0 : Int32))
  · refine z_iconst (pc := 7) x (v := (1 : Int32)) dJ7_getChars_2_7 rfl ?_
    refine z_goto (pc := 8) (tgt := 12) x dJ7_getChars_2_8 rfl ?_
    exact z_sub [1, 3, 0] rfl (w_J7_getChars_2_12 x hl hret hnm htab a0 a2 a1 (1 : Int32))
/-! J7_getChars -/
def s_J7_getChars (E : zE) (a0 : Int32) (a1 : Int32) (a2 : Int32) (a3 : Option Nat) : zM := zC (s_J7_checkBoundsBeginEnd E a1 a2 a3) zThr (zKV (zC (s_J7_getChars_2 E a0 a2 a3) zThr (zKI (fun v9 => if (1 : Int32) = 0 then (if a1 = v9 then (zRet (some (.int v9))) else zFail) else (zRet (some (.int v9)))))))
theorem m_J7_getChars {l : Launch} {E : zE} {D : va_G} {tA : Nat → ClassId} (hl : l.stackTraces = false) (a0 : Int32) (a1 : Int32) (a2 : Int32) (a3 : Option Nat) : zMet l E D tA yJ7_getChars (ws_ yJ7_getChars cJ7_getChars 5 (Option.some Jvm.ClassFile.FieldType.int)) 12 (s_J7_getChars E a0 a1 a2 a3) [zI a0, zI a1, zI a2, zP a3] := by
  refine z_met hl (by decide +kernel) (by rw [zSl_len]; exact (Nat.le_of_ble_eq_true rfl)) fun p e R s m args below meth c k0 x hret hnm htab => ?_
  refine z_lv [(0, zI a0), (1, zI a1), (2, zI a2), (3, zP a3)] rfl ?_
  unfold s_J7_getChars
  refine z_iload_n (pc := 0) x 1 dJ7_getChars_0 rfl rfl ?_
  refine z_iload_n (pc := 1) x 2 dJ7_getChars_1 rfl rfl ?_
  refine z_aload_n (pc := 2) x 3 dJ7_getChars_2 rfl rfl ?_
  refine z_call (pc := 3) (z_canS (pc := 3) (As := [zI a1, zI a2, zP a3]) (st := []) x (m_J7_checkBoundsBeginEnd hl a1 a2 a3) q1259 q1260 q120 q1261 n_J7_checkBoundsBeginEnd ⟨by decide, by decide⟩ (Nat.le_of_ble_eq_true rfl) dJ7_getChars_3) (zv_V ?_) (fun q => zx_thr x (fun z hz => (htab z hz).elim) q)
  refine z_iload_n (pc := 6) x 0 dJ7_getChars_6 rfl rfl ?_
  refine z_iload_n (pc := 7) x 2 dJ7_getChars_7 rfl rfl ?_
  refine z_aload_n (pc := 8) x 3 dJ7_getChars_8 rfl rfl ?_
  refine z_call (pc := 9) (z_canS (pc := 9) (As := [zI a0, zI a2, zP a3]) (st := []) x (m_J7_getChars_2 hl a0 a2 a3) q1368 q1369 q120 q1370 n_J7_getChars_2 ⟨by decide, by decide⟩ (Nat.le_of_ble_eq_true rfl) dJ7_getChars_9) (zv_I fun v9 => ?_) (fun q => zx_thr x (fun z hz => (htab z hz).elim) q)
  refine z_istore (pc := 12) (lv' := [(4, zI v9), (0, zI a0), (1, zI a1), (2, zI a2), (3, zP a3)]) x dJ7_getChars_12 (Nat.le_of_ble_eq_true rfl) rfl ?_
  refine z_staI (pc := 14) x (v := (1 : Int32)) (by decide) q1276 dJ7_getChars_14 ?_
  refine z_if_ne (pc := 17) (tgt := 34) x dJ7_getChars_17 rfl (fun _ => ?_) (fun _ => ?_)
  · refine z_iload_n (pc := 20) x 2 dJ7_getChars_20 rfl rfl ?_
    refine z_iload (pc := 21) x 0 dJ7_getChars_21 rfl ?_
    refine z_icmp_eq (pc := 23) (tgt := 34) x dJ7_getChars_23 rfl (fun _ => ?_) (fun _ => ?_)
    · refine z_iload (pc := 34) x 0 dJ7_getChars_34 rfl ?_
      exact z_iret (pc := 36) x hret dJ7_getChars_36
    · exact z_fail
  · refine z_iload (pc := 34) x 0 dJ7_getChars_34 rfl ?_
    exact z_iret (pc := 36) x hret dJ7_getChars_36
/-! J4_append_3 -/
def s_J4_append_3_48 (E : zE) (a0 : Option Nat) (a3 : Int32) : zM := zSet E a0 14 3 (zVal (zI a3)) (zRet (some (va_rf a0)))
theorem w_J4_append_3_48 (x : zCx p l R s m args meth c E D tA cJ4_append_3 4 yJ4_append_3.cls 13) (hl : l.stackTraces = false) (hret : meth.sig.returnType = (Option.some (Jvm.ClassFile.FieldType.object "java/lang/AbstractStringBuilder"))) (hnm : meth.name = yJ4_append_3.name) (htab : ∀ z ∈ c.exceptionTable.toList, False) (a0 : Option Nat) (a3 : Int32) : zW p l e R s m args below meth c E D tA 4 k0 (s_J4_append_3_48 E a0 a3) [(0, zP a0), (3, zI a3)] 48 [] := by
  unfold s_J4_append_3_48
  refine z_aload_n (pc := 48) x 0 dJ4_append_3_48 rfl rfl ?_
  refine z_iload_n (pc := 49) x 1 dJ4_append_3_49 rfl rfl ?_
  refine z_set (pc := 50) (v := zI a3) x in_J5 tyJ5 tyJ5_ok nmJ5 (ci := 14) rfl (k := 3) (by decide) q308 (fun _ h => h) rfl rfl rfl dJ4_append_3_50 ?_
  refine z_aload_n (pc := 53) x 0 dJ4_append_3_53 rfl rfl ?_
  exact z_aret (pc := 54) x hret (Or.inl ⟨_, rfl⟩) dJ4_append_3_54
def s_J4_append_3 (E : zE) (a0 : Option Nat) (a1 : Int32) : zM := zGetI a0 14 3 (fun v1 => zC (s_J14_stringSize E a1) zThr (zKI (fun v7 => zC (zRv a0 [(14, fun b => s_J4_ensureCapacityInternal E (some b) (v1 + v7))]) zThr (zKV (zC (zRv a0 [(14, fun b => s_J4_isLatin1 E (some b))]) zThr (zKI (fun v18 => if v18 = 0 then (zGetR a0 14 0 (fun v41 => zC (s_J7_getChars E a1 v1 (v1 + v7) v41) zThr (zKI (fun v44 => s_J4_append_3_48 E a0 (v1 + v7))))) else (zGetR a0 14 0 (fun v27 => zC (s_J14_getChars E a1 (v1 + v7) v27) zThr (zKI (fun v30 => s_J4_append_3_48 E a0 (v1 + v7))))))))))))
theorem m_J4_append_3 {l : Launch} {E : zE} {D : va_G} {tA : Nat → ClassId} (hl : l.stackTraces = false) (a0 : Option Nat) (a1 : Int32) : zMet l E D tA yJ4_append_3 (ws_ yJ4_append_3 cJ4_append_3 4 (Option.some (Jvm.ClassFile.FieldType.object "java/lang/AbstractStringBuilder"))) 13 (s_J4_append_3 E a0 a1) [zP a0, zI a1] := by
  refine z_met hl (by decide +kernel) (by rw [zSl_len]; exact (Nat.le_of_ble_eq_true rfl)) fun p e R s m args below meth c k0 x hret hnm htab => ?_
  refine z_lv [(0, zP a0), (1, zI a1)] rfl ?_
  unfold s_J4_append_3
  refine z_aload_n (pc := 0) x 0 dJ4_append_3_0 rfl rfl ?_
  refine z_get (pc := 1) (fun _ _ h => zAsI_eq h) x in_J5 (ci := 14) rfl (k := 3) (by decide) q308 (fun _ h => h) dJ4_append_3_1 fun v1 => ?_
  refine z_istore_n (pc := 4) (lv' := [(2, zI v1), (0, zP a0), (1, zI a1)]) x dJ4_append_3_4 rfl (Nat.le_of_ble_eq_true rfl) rfl ?_
  refine z_iload_n (pc := 5) x 0 dJ4_append_3_5 rfl rfl ?_
  refine z_iload_n (pc := 6) x 2 dJ4_append_3_6 rfl rfl ?_
  refine z_call (pc := 7) (z_canS (pc := 7) (As := [zI a1]) (st := [zI v1]) x (m_J14_stringSize hl a1) q1355 q1356 q128 q1357 n_J14_stringSize ⟨by decide, by decide⟩ (Nat.le_of_ble_eq_true rfl) dJ4_append_3_7) (zv_I fun v7 => ?_) (fun q => zx_thr x (fun z hz => (htab z hz).elim) q)
  refine z_iadd (pc := 10) x dJ4_append_3_10 ?_
  refine z_istore_n (pc := 11) (lv' := [(3, zI (v1 + v7)), (2, zI v1), (0, zP a0), (1, zI a1)]) x dJ4_append_3_11 rfl (Nat.le_of_ble_eq_true rfl) rfl ?_
  refine z_aload_n (pc := 12) x 2 dJ4_append_3_12 rfl rfl ?_
  refine z_iload_n (pc := 13) x 0 dJ4_append_3_13 rfl rfl ?_
  refine z_call (pc := 14) (z_canV (pc := 14) (As := [zI (v1 + v7)]) (st := []) x (ci := 14) rfl (fun b => m_J4_ensureCapacityInternal hl (some b) (v1 + v7)) q1233 q1235 (z_selP x (ci := 14) rfl (by decide) (zNi_sel (z := ⟨"java/lang/AbstractStringBuilder", "isLatin1", "()Z"⟩) x q1254) q1234 q1235) q117 q1236 n_J4_ensureCapacityInternal ⟨by decide, by decide⟩ (Nat.le_of_ble_eq_true rfl) dJ4_append_3_14) (zv_V ?_) (fun q => zx_thr x (fun z hz => (htab z hz).elim) q)
  refine z_aload_n (pc := 17) x 2 dJ4_append_3_17 rfl rfl ?_
  refine z_call (pc := 18) (z_canV (pc := 18) (As := []) (st := []) x (ci := 14) rfl (fun b => m_J4_isLatin1 hl (some b)) q1251 q1252 (x.2.2.2.2.1 _ q1254) q117 q1255 n_J4_isLatin1 ⟨by decide, by decide⟩ (Nat.le_of_ble_eq_true rfl) dJ4_append_3_18) (zv_I fun v18 => ?_) (fun q => zx_thr x (fun z hz => (htab z hz).elim) q)
  refine z_if_eq (pc := 21) (tgt := 37) x dJ4_append_3_21 rfl (fun _ => ?_) (fun _ => ?_)
  · refine z_iload_n (pc := 37) x 3 dJ4_append_3_37 rfl rfl ?_
    refine z_iload_n (pc := 38) x 1 dJ4_append_3_38 rfl rfl ?_
    refine z_iload_n (pc := 39) x 0 dJ4_append_3_39 rfl rfl ?_
    refine z_aload_n (pc := 40) x 2 dJ4_append_3_40 rfl rfl ?_
    refine z_get (pc := 41) (fun _ _ h => zAsR_eq h) x in_J5 (ci := 14) rfl (k := 0) (by decide) q304 (fun _ h => h) dJ4_append_3_41 fun v41 => ?_
    refine z_call (pc := 44) (z_canS (pc := 44) (As := [zI a1, zI v1, zI (v1 + v7), zP v41]) (st := []) x (m_J7_getChars hl a1 v1 (v1 + v7) v41) q1365 q1366 q120 q1367 n_J7_getChars ⟨by decide, by decide⟩ (Nat.le_of_ble_eq_true rfl) dJ4_append_3_44) (zv_I fun v44 => ?_) (fun q => zx_thr x (fun z hz => (htab z hz).elim) q)
    refine z_pop (pc := 47) x dJ4_append_3_47 rfl ?_
    exact z_sub [2, 0] rfl (w_J4_append_3_48 x hl hret hnm htab a0 (v1 + v7))
  · refine z_iload_n (pc := 24) x 3 dJ4_append_3_24 rfl rfl ?_
    refine z_iload_n (pc := 25) x 0 dJ4_append_3_25 rfl rfl ?_
    refine z_aload_n (pc := 26) x 2 dJ4_append_3_26 rfl rfl ?_
    refine z_get (pc := 27) (fun _ _ h => zAsR_eq h) x in_J5 (ci := 14) rfl (k := 0) (by decide) q304 (fun _ h => h) dJ4_append_3_27 fun v27 => ?_
    refine z_call (pc := 30) (z_canS (pc := 30) (As := [zI a1, zI (v1 + v7), zP v27]) (st := []) x (m_J14_getChars hl a1 (v1 + v7) v27) q1358 q1359 q128 q1360 n_J14_getChars ⟨by decide, by decide⟩ (Nat.le_of_ble_eq_true rfl) dJ4_append_3_30) (zv_I fun v30 => ?_) (fun q => zx_thr x (fun z hz => (htab z hz).elim) q)
    refine z_pop (pc := 33) x dJ4_append_3_33 rfl ?_
    refine z_goto (pc := 34) (tgt := 48) x dJ4_append_3_34 rfl ?_
    exact z_sub [2, 0] rfl (w_J4_append_3_48 x hl hret hnm htab a0 (v1 + v7))
/-! J5_append_3 -/
def s_J5_append_3 (E : zE) (a0 : Option Nat) (a1 : Int32) : zM := zC (zRv a0 [(14, fun b => s_J4_append_3 E (some b) a1)]) zThr (zKR (fun v2 => zRet (some (va_rf a0))))
theorem m_J5_append_3 {l : Launch} {E : zE} {D : va_G} {tA : Nat → ClassId} (hl : l.stackTraces = false) (a0 : Option Nat) (a1 : Int32) : zMet l E D tA yJ5_append_3 (ws_ yJ5_append_3 cJ5_append_3 2 (Option.some (Jvm.ClassFile.FieldType.object "java/lang/StringBuilder"))) 14 (s_J5_append_3 E a0 a1) [zP a0, zI a1] := by
  refine z_met hl (by decide +kernel) (by rw [zSl_len]; exact (Nat.le_of_ble_eq_true rfl)) fun p e R s m args below meth c k0 x hret hnm htab => ?_
  refine z_lv [(0, zP a0), (1, zI a1)] rfl ?_
  unfold s_J5_append_3
  refine z_aload_n (pc := 0) x 0 dJ5_append_3_0 rfl rfl ?_
  refine z_iload_n (pc := 1) x 1 dJ5_append_3_1 rfl rfl ?_
  refine z_call (pc := 2) (z_canSU (pc := 2) (As := [zI a1]) (st := []) x (ci := 14) rfl (fun b => m_J4_append_3 hl (some b) a1) q1352 q3358 q317 (by decide) q1353 q117 q1354 n_J4_append_3 ⟨by decide, by decide⟩ (Nat.le_of_ble_eq_true rfl) dJ5_append_3_2) (zv_R fun v2 => ?_) (fun q => zx_thr x (fun z hz => (htab z hz).elim) q)
  refine z_pop (pc := 5) x dJ5_append_3_5 rfl ?_
  refine z_aload_n (pc := 6) x 0 dJ5_append_3_6 rfl rfl ?_
  exact z_aret (pc := 7) x hret (Or.inl ⟨_, rfl⟩) dJ5_append_3_7
/-! X1_textOf -/
def s_X1_textOf_44 (E : zE) (a1 : Int32) (a2 : Option Nat) : zM := zRem a1 (10 : Int32) (fun v48 => zC (zRv a2 [(14, fun b => s_J5_append_3 E (some b) v48)]) zThr (zKR (fun v49 => zC (zRv v49 [(14, fun b => s_J5_append_2 E (some b) (41 : Int32))]) zThr (zKR (fun v54 => zC (zRv v54 [(14, fun b => s_J5_toString E (some b))]) zThr (zKR (fun v57 => zRet (some (va_rf v57)))))))))
theorem w_X1_textOf_44 (x : zCx p l R s m args meth c E D tA cX1_textOf 3 yX1_textOf.cls 17) (hl : l.stackTraces = false) (hret : meth.sig.returnType = (Option.some (Jvm.ClassFile.FieldType.object "java/lang/String"))) (hnm : meth.name = yX1_textOf.name) (htab : ∀ z ∈ c.exceptionTable.toList, False) (a1 : Int32) (a2 : Option Nat) : zW p l e R s m args below meth c E D tA 3 k0 (s_X1_textOf_44 E a1 a2) [(1, zI a1), (2, zP a2)] 44 [] := by
  unfold s_X1_textOf_44
  refine z_aload_n (pc := 44) x 1 dX1_textOf_44 rfl rfl ?_
  refine z_iload_n (pc := 45) x 0 dX1_textOf_45 rfl rfl ?_
  refine z_bipush (pc := 46) x (v := (10 : Int32)) dX1_textOf_46 rfl ?_
  refine z_irem (pc := 48) x dX1_textOf_48 fun v48 => ?_
  refine z_call (pc := 49) (z_canV (pc := 49) (As := [zI v48]) (st := []) x (ci := 14) rfl (fun b => m_J5_append_3 hl (some b) v48) q1348 q1349 (x.2.2.2.2.1 _ q1350) q118 q1351 n_J5_append_3 ⟨by decide, by decide⟩ (Nat.le_of_ble_eq_true rfl) dX1_textOf_49) (zv_R fun v49 => ?_) (fun q => zx_thr x (fun z hz => (htab z hz).elim) q)
  refine z_bipush (pc := 52) x (v := (41 : Int32)) dX1_textOf_52 rfl ?_
  refine z_call (pc := 54) (z_canV (pc := 54) (As := [zI (41 : Int32)]) (st := []) x (ci := 14) rfl (fun b => m_J5_append_2 hl (some b) (41 : Int32)) q1328 q1329 (x.2.2.2.2.1 _ q1330) q118 q1331 n_J5_append_2 ⟨by decide, by decide⟩ (Nat.le_of_ble_eq_true rfl) dX1_textOf_54) (zv_R fun v54 => ?_) (fun q => zx_thr x (fun z hz => (htab z hz).elim) q)
  refine z_call (pc := 57) (z_canV (pc := 57) (As := []) (st := []) x (ci := 14) rfl (fun b => m_J5_toString hl (some b)) q1373 q1374 (x.2.2.2.2.1 _ q1375) q118 q1376 n_J5_toString ⟨by decide, by decide⟩ (Nat.le_of_ble_eq_true rfl) dX1_textOf_57) (zv_R fun v57 => ?_) (fun q => zx_thr x (fun z hz => (htab z hz).elim) q)
  exact z_aret (pc := 60) x hret (Or.inl ⟨_, rfl⟩) dX1_textOf_60
def s_X1_textOf (E : zE) (a0 : Int32) (a1 : Int32) : zM := zNew 14 4 [.null, .int 0, .int 0, .int 0] (fun v0 => zC (zSp v0 (fun b => s_J5_init E (some b))) zThr (zKV (zC (zRv v0 [(14, fun b => s_J5_append_2 E (some b) (((((97 : Int32) + a0)).toUInt32 % 65536).toInt32))]) zThr (zKR (fun v14 => zC (zRv v14 [(14, fun b => s_J5_append_2 E (some b) (40 : Int32))]) zThr (zKR (fun v19 => zC (s_X1_isPair E a0) zThr (zKI (fun v24 => if v24 = 0 then (s_X1_textOf_44 E a1 v0) else (zDiv a1 (10 : Int32) (fun v34 => zC (zRv v0 [(14, fun b => s_J5_append_3 E (some b) v34)]) zThr (zKR (fun v35 => zC (zRv v35 [(14, fun b => s_J5_append_2 E (some b) (44 : Int32))]) zThr (zKR (fun v40 => s_X1_textOf_44 E a1 v0)))))))))))))))
theorem m_X1_textOf {l : Launch} {E : zE} {D : va_G} {tA : Nat → ClassId} (hl : l.stackTraces = false) (a0 : Int32) (a1 : Int32) : zMet l E D tA yX1_textOf (ws_ yX1_textOf cX1_textOf 3 (Option.some (Jvm.ClassFile.FieldType.object "java/lang/String"))) 17 (s_X1_textOf E a0 a1) [zI a0, zI a1] := by
  refine z_met hl (by decide +kernel) (by rw [zSl_len]; exact (Nat.le_of_ble_eq_true rfl)) fun p e R s m args below meth c k0 x hret hnm htab => ?_
  refine z_lv [(0, zI a0), (1, zI a1)] rfl ?_
  unfold s_X1_textOf
  refine z_new (pc := 0) x in_J5 tyJ5 tyJ5_ok q286 q287 q118 (ci := 14) rfl (by decide) (by decide +kernel) dX1_textOf_0 fun v0 => ?_
  refine z_dup (pc := 3) x dX1_textOf_3 rfl ?_
  refine z_call (pc := 4) (z_canI (pc := 4) (ret := none) (As := []) (st := [zP v0]) x (fun b => m_J5_init hl (some b)) q288 rfl q289 q118 q290 n_J5_init ⟨by decide, by decide⟩ (Nat.le_of_ble_eq_true rfl) dX1_textOf_4) (zv_V ?_) (fun q => zx_thr x (fun z hz => (htab z hz).elim) q)
  refine z_astore_n (pc := 7) (lv' := [(2, zP v0), (0, zI a0), (1, zI a1)]) x dX1_textOf_7 rfl (Nat.le_of_ble_eq_true rfl) rfl ?_
  refine z_aload_n (pc := 8) x 0 dX1_textOf_8 rfl rfl ?_
  refine z_bipush (pc := 9) x (v := (97 : Int32)) dX1_textOf_9 rfl ?_
  refine z_iload_n (pc := 11) x 1 dX1_textOf_11 rfl rfl ?_
  refine z_iadd (pc := 12) x dX1_textOf_12 ?_
  refine z_i2c (pc := 13) x dX1_textOf_13 ?_
  refine z_call (pc := 14) (z_canV (pc := 14) (As := [zI (((((97 : Int32) + a0)).toUInt32 % 65536).toInt32)]) (st := []) x (ci := 14) rfl (fun b => m_J5_append_2 hl (some b) (((((97 : Int32) + a0)).toUInt32 % 65536).toInt32)) q1328 q1329 (x.2.2.2.2.1 _ q1330) q118 q1331 n_J5_append_2 ⟨by decide, by decide⟩ (Nat.le_of_ble_eq_true rfl) dX1_textOf_14) (zv_R fun v14 => ?_) (fun q => zx_thr x (fun z hz => (htab z hz).elim) q)
  refine z_bipush (pc := 17) x (v := (40 : Int32)) dX1_textOf_17 rfl ?_
  refine z_call (pc := 19) (z_canV (pc := 19) (As := [zI (40 : Int32)]) (st := []) x (ci := 14) rfl (fun b => m_J5_append_2 hl (some b) (40 : Int32)) q1328 q1329 (x.2.2.2.2.1 _ q1330) q118 q1331 n_J5_append_2 ⟨by decide, by decide⟩ (Nat.le_of_ble_eq_true rfl) dX1_textOf_19) (zv_R fun v19 => ?_) (fun q => zx_thr x (fun z hz => (htab z hz).elim) q)
  refine z_pop (pc := 22) x dX1_textOf_22 rfl ?_
  refine z_iload_n (pc := 23) x 1 dX1_textOf_23 rfl rfl ?_
  refine z_call (pc := 24) (z_canS (pc := 24) (As := [zI a0]) (st := []) x (m_X1_isPair hl a0) q812 q807 q108 q808 n_X1_isPair ⟨by decide, by decide⟩ (Nat.le_of_ble_eq_true rfl) dX1_textOf_24) (zv_I fun v24 => ?_) (fun q => zx_thr x (fun z hz => (htab z hz).elim) q)
  refine z_if_eq (pc := 27) (tgt := 44) x dX1_textOf_27 rfl (fun _ => ?_) (fun _ => ?_)
  · exact z_sub [2, 0] rfl (w_X1_textOf_44 x hl hret hnm htab a1 v0)
  · refine z_aload_n (pc := 30) x 0 dX1_textOf_30 rfl rfl ?_
    refine z_iload_n (pc := 31) x 2 dX1_textOf_31 rfl rfl ?_
    refine z_bipush (pc := 32) x (v := (10 : Int32)) dX1_textOf_32 rfl ?_
    refine z_idiv (pc := 34) x dX1_textOf_34 fun v34 => ?_
    refine z_call (pc := 35) (z_canV (pc := 35) (As := [zI v34]) (st := []) x (ci := 14) rfl (fun b => m_J5_append_3 hl (some b) v34) q1348 q1349 (x.2.2.2.2.1 _ q1350) q118 q1351 n_J5_append_3 ⟨by decide, by decide⟩ (Nat.le_of_ble_eq_true rfl) dX1_textOf_35) (zv_R fun v35 => ?_) (fun q => zx_thr x (fun z hz => (htab z hz).elim) q)
    refine z_bipush (pc := 38) x (v := (44 : Int32)) dX1_textOf_38 rfl ?_
    refine z_call (pc := 40) (z_canV (pc := 40) (As := [zI (44 : Int32)]) (st := []) x (ci := 14) rfl (fun b => m_J5_append_2 hl (some b) (44 : Int32)) q1328 q1329 (x.2.2.2.2.1 _ q1330) q118 q1331 n_J5_append_2 ⟨by decide, by decide⟩ (Nat.le_of_ble_eq_true rfl) dX1_textOf_40) (zv_R fun v40 => ?_) (fun q => zx_thr x (fun z hz => (htab z hz).elim) q)
    refine z_pop (pc := 43) x dX1_textOf_43 rfl ?_
    exact z_sub [2, 0] rfl (w_X1_textOf_44 x hl hret hnm htab a1 v0)
/-! J4_inflateIfNeededFor -/
def s_J4_inflateIfNeededFor (E : zE) (a0 : Option Nat) (a1 : Option Nat) : zM := if (1 : Int32) = 0 then (zRet none) else (zGetI a0 14 1 (fun v7 => zC (zRv a1 [(15, fun b => s_J6_coder E (some b))]) zThr (zKI (fun v11 => if v7 = v11 then (zRet none) else (zC (zRv a0 [(14, fun b => s_J4_inflate E (some b))]) zThr (zKV (zRet none)))))))
theorem m_J4_inflateIfNeededFor {l : Launch} {E : zE} {D : va_G} {tA : Nat → ClassId} (hl : l.stackTraces = false) (a0 : Option Nat) (a1 : Option Nat) : zMet l E D tA yJ4_inflateIfNeededFor (ws_ yJ4_inflateIfNeededFor cJ4_inflateIfNeededFor 2 (Option.none : Option Jvm.ClassFile.FieldType)) 15 (s_J4_inflateIfNeededFor E a0 a1) [zP a0, zP a1] := by
  refine z_met hl (by decide +kernel) (by rw [zSl_len]; exact (Nat.le_of_ble_eq_true rfl)) fun p e R s m args below meth c k0 x hret hnm htab => ?_
  refine z_lv [(0, zP a0), (1, zP a1)] rfl ?_
  unfold s_J4_inflateIfNeededFor
  refine z_staI (pc := 0) x (v := (1 : Int32)) (by decide) q295 dJ4_inflateIfNeededFor_0 ?_
  refine z_if_eq (pc := 3) (tgt := 21) x dJ4_inflateIfNeededFor_3 rfl (fun _ => ?_) (fun _ => ?_)
  · exact z_vret (pc := 21) x hret dJ4_inflateIfNeededFor_21
  · refine z_aload_n (pc := 6) x 0 dJ4_inflateIfNeededFor_6 rfl rfl ?_
    refine z_get (pc := 7) (fun _ _ h => zAsI_eq h) x in_J5 (ci := 14) rfl (k := 1) (by decide) q305 (fun _ h => h) dJ4_inflateIfNeededFor_7 fun v7 => ?_
    refine z_aload_n (pc := 10) x 1 dJ4_inflateIfNeededFor_10 rfl rfl ?_
    refine z_call (pc := 11) (z_canV (pc := 11) (As := []) (st := [zI v7]) x (ci := 15) rfl (fun b => m_J6_coder hl (some b)) q1299 q1287 (x.2.2.2.2.1 _ q1288) q119 q1289 n_J6_coder ⟨by decide, by decide⟩ (Nat.le_of_ble_eq_true rfl) dJ4_inflateIfNeededFor_11) (zv_I fun v11 => ?_) (fun q => zx_thr x (fun z hz => (htab z hz).elim) q)
    refine z_icmp_eq (pc := 14) (tgt := 21) x dJ4_inflateIfNeededFor_14 rfl (fun _ => ?_) (fun _ => ?_)
    · exact z_vret (pc := 21) x hret dJ4_inflateIfNeededFor_21
    · refine z_aload_n (pc := 17) x 0 dJ4_inflateIfNeededFor_17 rfl rfl ?_
      refine z_call (pc := 18) (z_canV (pc := 18) (As := []) (st := []) x (ci := 14) rfl (fun b => m_J4_inflate hl (some b)) q1300 q1302 (z_selP x (ci := 14) rfl (by decide) (zNi_sel (z := ⟨"java/lang/AbstractStringBuilder", "isLatin1", "()Z"⟩) x q1254) q1301 q1302) q117 q1303 n_J4_inflate ⟨by decide, by decide⟩ (Nat.le_of_ble_eq_true rfl) dJ4_inflateIfNeededFor_18) (zv_V ?_) (fun q => zx_thr x (fun z hz => (htab z hz).elim) q)
      exact z_vret (pc := 21) x hret dJ4_inflateIfNeededFor_21
/-! J6_getBytes -/
def s_J6_getBytes (E : zE) (a0 : Option Nat) (a1 : Option Nat) (a2 : Int32) (a3 : Int32) : zM := zC (zRv a0 [(15, fun b => s_J6_coder E (some b))]) zThr (zKI (fun v1 => if v1 = a3 then (zGetR a0 15 0 (fun v9 => zGetR a0 15 0 (fun v18 => zLen v18 (fun v21 => zCpI E 1 v9 (0 : Int32) a1 (a2 <<< (a3 &&& 31)) v21 (zRet none))))) else (zGetR a0 15 0 (fun v29 => zGetR a0 15 0 (fun v36 => zLen v36 (fun v39 => zC (s_J18_inflate E v29 (0 : Int32) a1 a2 v39) zThr (zKV (zRet none))))))))
theorem m_J6_getBytes {l : Launch} {E : zE} {D : va_G} {tA : Nat → ClassId} (hl : l.stackTraces = false) (a0 : Option Nat) (a1 : Option Nat) (a2 : Int32) (a3 : Int32) : zMet l E D tA yJ6_getBytes (ws_ yJ6_getBytes cJ6_getBytes 4 (Option.none : Option Jvm.ClassFile.FieldType)) 14 (s_J6_getBytes E a0 a1 a2 a3) [zP a0, zP a1, zI a2, zI a3] := by
  refine z_met hl (by decide +kernel) (by rw [zSl_len]; exact (Nat.le_of_ble_eq_true rfl)) fun p e R s m args below meth c k0 x hret hnm htab => ?_
  refine z_lv [(0, zP a0), (1, zP a1), (2, zI a2), (3, zI a3)] rfl ?_
  unfold s_J6_getBytes
  refine z_aload_n (pc := 0) x 0 dJ6_getBytes_0 rfl rfl ?_
  refine z_call (pc := 1) (z_canV (pc := 1) (As := []) (st := []) x (ci := 15) rfl (fun b => m_J6_coder hl (some b)) q1286 q1287 (x.2.2.2.2.1 _ q1288) q119 q1289 n_J6_coder ⟨by decide, by decide⟩ (Nat.le_of_ble_eq_true rfl) dJ6_getBytes_1) (zv_I fun v1 => ?_) (fun q => zx_thr x (fun z hz => (htab z hz).elim) q)
  refine z_iload_n (pc := 4) x 3 dJ6_getBytes_4 rfl rfl ?_
  refine z_icmp_ne (pc := 5) (tgt := 28) x dJ6_getBytes_5 rfl (fun _ => ?_) (fun _ => ?_)
  · refine z_aload_n (pc := 8) x 0 dJ6_getBytes_8 rfl rfl ?_
    refine z_get (pc := 9) (fun _ _ h => zAsR_eq h) x in_J6 (ci := 15) rfl (k := 0) (by decide) q1436 (fun _ h => h) dJ6_getBytes_9 fun v9 => ?_
    refine z_iconst (pc := 12) x (v := (0 : Int32)) dJ6_getBytes_12 rfl ?_
    refine z_aload_n (pc := 13) x 1 dJ6_getBytes_13 rfl rfl ?_
    refine z_iload_n (pc := 14) x 2 dJ6_getBytes_14 rfl rfl ?_
    refine z_iload_n (pc := 15) x 3 dJ6_getBytes_15 rfl rfl ?_
    refine z_ishl (pc := 16) x dJ6_getBytes_16 ?_
    refine z_aload_n (pc := 17) x 0 dJ6_getBytes_17 rfl rfl ?_
    refine z_get (pc := 18) (fun _ _ h => zAsR_eq h) x in_J6 (ci := 15) rfl (k := 0) (by decide) q1436 (fun _ h => h) dJ6_getBytes_18 fun v18 => ?_
    refine z_len (pc := 21) x dJ6_getBytes_21 fun v21 => ?_
    refine z_cpyI (pc := 22) x (t := 1) (ty := .byte) rfl rfl q1323 q742 q741 q131 (by omega) (zSum (k := 0) rfl (by omega)) dJ6_getBytes_22 ?_
    refine z_goto (pc := 25) (tgt := 43) x dJ6_getBytes_25 rfl ?_
    exact z_vret (pc := 43) x hret dJ6_getBytes_43
  · refine z_aload_n (pc := 28) x 0 dJ6_getBytes_28 rfl rfl ?_
    refine z_get (pc := 29) (fun _ _ h => zAsR_eq h) x in_J6 (ci := 15) rfl (k := 0) (by decide) q1436 (fun _ h => h) dJ6_getBytes_29 fun v29 => ?_
    refine z_iconst (pc := 32) x (v := (0 : Int32)) dJ6_getBytes_32 rfl ?_
    refine z_aload_n (pc := 33) x 1 dJ6_getBytes_33 rfl rfl ?_
    refine z_iload_n (pc := 34) x 2 dJ6_getBytes_34 rfl rfl ?_
    refine z_aload_n (pc := 35) x 0 dJ6_getBytes_35 rfl rfl ?_
    refine z_get (pc := 36) (fun _ _ h => zAsR_eq h) x in_J6 (ci := 15) rfl (k := 0) (by decide) q1436 (fun _ h => h) dJ6_getBytes_36 fun v36 => ?_
    refine z_len (pc := 39) x dJ6_getBytes_39 fun v39 => ?_
    refine z_call (pc := 40) (z_canS (pc := 40) (As := [zP v29, zI (0 : Int32), zP a1, zI a2, zI v39]) (st := []) x (m_J18_inflate hl v29 (0 : Int32) a1 a2 v39) q1324 q1305 q133 q1306 n_J18_inflate ⟨by decide, by decide⟩ (Nat.le_of_ble_eq_true rfl) dJ6_getBytes_40) (zv_V ?_) (fun q => zx_thr x (fun z hz => (htab z hz).elim) q)
    exact z_vret (pc := 43) x hret dJ6_getBytes_43
/-! J4_putStringAt -/
def s_J4_putStringAt (E : zE) (a0 : Option Nat) (a1 : Int32) (a2 : Option Nat) : zM := zC (zRv a0 [(14, fun b => s_J4_inflateIfNeededFor E (some b) a2)]) zThr (zKV (zGetR a0 14 0 (fun v7 => zGetI a0 14 1 (fun v12 => zC (zRv a2 [(15, fun b => s_J6_getBytes E (some b) v7 a1 v12)]) zThr (zKV (zRet none))))))
theorem m_J4_putStringAt {l : Launch} {E : zE} {D : va_G} {tA : Nat → ClassId} (hl : l.stackTraces = false) (a0 : Option Nat) (a1 : Int32) (a2 : Option Nat) : zMet l E D tA yJ4_putStringAt (ws_ yJ4_putStringAt cJ4_putStringAt 3 (Option.none : Option Jvm.ClassFile.FieldType)) 16 (s_J4_putStringAt E a0 a1 a2) [zP a0, zI a1, zP a2] := by
  refine z_met hl (by decide +kernel) (by rw [zSl_len]; exact (Nat.le_of_ble_eq_true rfl)) fun p e R s m args below meth c k0 x hret hnm htab => ?_
  refine z_lv [(0, zP a0), (1, zI a1), (2, zP a2)] rfl ?_
  unfold s_J4_putStringAt
  refine z_aload_n (pc := 0) x 0 dJ4_putStringAt_0 rfl rfl ?_
  refine z_aload_n (pc := 1) x 2 dJ4_putStringAt_1 rfl rfl ?_
  refine z_call (pc := 2) (z_canV (pc := 2) (As := [zP a2]) (st := []) x (ci := 14) rfl (fun b => m_J4_inflateIfNeededFor hl (some b) a2) q1295 q1297 (z_selP x (ci := 14) rfl (by decide) (zNi_sel (z := ⟨"java/lang/AbstractStringBuilder", "isLatin1", "()Z"⟩) x q1254) q1296 q1297) q117 q1298 n_J4_inflateIfNeededFor ⟨by decide, by decide⟩ (Nat.le_of_ble_eq_true rfl) dJ4_putStringAt_2) (zv_V ?_) (fun q => zx_thr x (fun z hz => (htab z hz).elim) q)
  refine z_aload_n (pc := 5) x 2 dJ4_putStringAt_5 rfl rfl ?_
  refine z_aload_n (pc := 6) x 0 dJ4_putStringAt_6 rfl rfl ?_
  refine z_get (pc := 7) (fun _ _ h => zAsR_eq h) x in_J5 (ci := 14) rfl (k := 0) (by decide) q304 (fun _ h => h) dJ4_putStringAt_7 fun v7 => ?_
  refine z_iload_n (pc := 10) x 1 dJ4_putStringAt_10 rfl rfl ?_
  refine z_aload_n (pc := 11) x 0 dJ4_putStringAt_11 rfl rfl ?_
  refine z_get (pc := 12) (fun _ _ h => zAsI_eq h) x in_J5 (ci := 14) rfl (k := 1) (by decide) q305 (fun _ h => h) dJ4_putStringAt_12 fun v12 => ?_
  refine z_call (pc := 15) (z_canV (pc := 15) (As := [zP v7, zI a1, zI v12]) (st := []) x (ci := 15) rfl (fun b => m_J6_getBytes hl (some b) v7 a1 v12) q1319 q1320 (x.2.2.2.2.1 _ q1321) q119 q1322 n_J6_getBytes ⟨by decide, by decide⟩ (Nat.le_of_ble_eq_true rfl) dJ4_putStringAt_15) (zv_V ?_) (fun q => zx_thr x (fun z hz => (htab z hz).elim) q)
  exact z_vret (pc := 18) x hret dJ4_putStringAt_18
/-! J4_append -/
def s_J4_append (E : zE) (a0 : Option Nat) (a1 : Option Nat) : zM := if a1 = none then zFail else (zC (zRv a1 [(15, fun b => s_J6_length E (some b))]) zThr (zKI (fun v10 => zGetI a0 14 3 (fun v16 => zC (zRv a0 [(14, fun b => s_J4_ensureCapacityInternal E (some b) (v16 + v10))]) zThr (zKV (zGetI a0 14 3 (fun v26 => zC (zRv a0 [(14, fun b => s_J4_putStringAt E (some b) v26 a1)]) zThr (zKV (zGetI a0 14 3 (fun v35 => zSet E a0 14 3 (zVal (zI (v35 + v10))) (zRet (some (va_rf a0)))))))))))))
theorem m_J4_append {l : Launch} {E : zE} {D : va_G} {tA : Nat → ClassId} (hl : l.stackTraces = false) (a0 : Option Nat) (a1 : Option Nat) : zMet l E D tA yJ4_append (ws_ yJ4_append cJ4_append 3 (Option.some (Jvm.ClassFile.FieldType.object "java/lang/AbstractStringBuilder"))) 17 (s_J4_append E a0 a1) [zP a0, zP a1] := by
  refine z_met hl (by decide +kernel) (by rw [zSl_len]; exact (Nat.le_of_ble_eq_true rfl)) fun p e R s m args below meth c k0 x hret hnm htab => ?_
  refine z_lv [(0, zP a0), (1, zP a1)] rfl ?_
  unfold s_J4_append
  refine z_aload_n (pc := 0) x 1 dJ4_append_0 rfl rfl ?_
  refine z_ifnonnull (pc := 1) (tgt := 9) x dJ4_append_1 rfl (fun _ => ?_) (fun _ => ?_)
  · exact z_fail
  · refine z_aload_n (pc := 9) x 1 dJ4_append_9 rfl rfl ?_
    refine z_call (pc := 10) (z_canV (pc := 10) (As := []) (st := []) x (ci := 15) rfl (fun b => m_J6_length hl (some b)) q1282 q1283 (x.2.2.2.2.1 _ q1284) q119 q1285 n_J6_length ⟨by decide, by decide⟩ (Nat.le_of_ble_eq_true rfl) dJ4_append_10) (zv_I fun v10 => ?_) (fun q => zx_thr x (fun z hz => (htab z hz).elim) q)
    refine z_istore_n (pc := 13) (lv' := [(2, zI v10), (0, zP a0), (1, zP a1)]) x dJ4_append_13 rfl (Nat.le_of_ble_eq_true rfl) rfl ?_
    refine z_aload_n (pc := 14) x 1 dJ4_append_14 rfl rfl ?_
    refine z_aload_n (pc := 15) x 1 dJ4_append_15 rfl rfl ?_
    refine z_get (pc := 16) (fun _ _ h => zAsI_eq h) x in_J5 (ci := 14) rfl (k := 3) (by decide) q308 (fun _ h => h) dJ4_append_16 fun v16 => ?_
    refine z_iload_n (pc := 19) x 0 dJ4_append_19 rfl rfl ?_
    refine z_iadd (pc := 20) x dJ4_append_20 ?_
    refine z_call (pc := 21) (z_canV (pc := 21) (As := [zI (v16 + v10)]) (st := []) x (ci := 14) rfl (fun b => m_J4_ensureCapacityInternal hl (some b) (v16 + v10)) q1233 q1235 (z_selP x (ci := 14) rfl (by decide) (zNi_sel (z := ⟨"java/lang/AbstractStringBuilder", "isLatin1", "()Z"⟩) x q1254) q1234 q1235) q117 q1236 n_J4_ensureCapacityInternal ⟨by decide, by decide⟩ (Nat.le_of_ble_eq_true rfl) dJ4_append_21) (zv_V ?_) (fun q => zx_thr x (fun z hz => (htab z hz).elim) q)
    refine z_aload_n (pc := 24) x 1 dJ4_append_24 rfl rfl ?_
    refine z_aload_n (pc := 25) x 1 dJ4_append_25 rfl rfl ?_
    refine z_get (pc := 26) (fun _ _ h => zAsI_eq h) x in_J5 (ci := 14) rfl (k := 3) (by decide) q308 (fun _ h => h) dJ4_append_26 fun v26 => ?_
    refine z_aload_n (pc := 29) x 2 dJ4_append_29 rfl rfl ?_
    refine z_call (pc := 30) (z_canV (pc := 30) (As := [zI v26, zP a1]) (st := []) x (ci := 14) rfl (fun b => m_J4_putStringAt hl (some b) v26 a1) q1291 q1293 (z_selP x (ci := 14) rfl (by decide) (zNi_sel (z := ⟨"java/lang/AbstractStringBuilder", "isLatin1", "()Z"⟩) x q1254) q1292 q1293) q117 q1294 n_J4_putStringAt ⟨by decide, by decide⟩ (Nat.le_of_ble_eq_true rfl) dJ4_append_30) (zv_V ?_) (fun q => zx_thr x (fun z hz => (htab z hz).elim) q)
    refine z_aload_n (pc := 33) x 1 dJ4_append_33 rfl rfl ?_
    refine z_dup (pc := 34) x dJ4_append_34 rfl ?_
    refine z_get (pc := 35) (fun _ _ h => zAsI_eq h) x in_J5 (ci := 14) rfl (k := 3) (by decide) q308 (fun _ h => h) dJ4_append_35 fun v35 => ?_
    refine z_iload_n (pc := 38) x 0 dJ4_append_38 rfl rfl ?_
    refine z_iadd (pc := 39) x dJ4_append_39 ?_
    refine z_set (pc := 40) (v := zI (v35 + v10)) x in_J5 tyJ5 tyJ5_ok nmJ5 (ci := 14) rfl (k := 3) (by decide) q308 (fun _ h => h) rfl rfl rfl dJ4_append_40 ?_
    refine z_aload_n (pc := 43) x 1 dJ4_append_43 rfl rfl ?_
    exact z_aret (pc := 44) x hret (Or.inl ⟨_, rfl⟩) dJ4_append_44
/-! J5_append -/
def s_J5_append (E : zE) (a0 : Option Nat) (a1 : Option Nat) : zM := zC (zRv a0 [(14, fun b => s_J4_append E (some b) a1)]) zThr (zKR (fun v2 => zRet (some (va_rf a0))))
theorem m_J5_append {l : Launch} {E : zE} {D : va_G} {tA : Nat → ClassId} (hl : l.stackTraces = false) (a0 : Option Nat) (a1 : Option Nat) : zMet l E D tA yJ5_append (ws_ yJ5_append cJ5_append 2 (Option.some (Jvm.ClassFile.FieldType.object "java/lang/StringBuilder"))) 18 (s_J5_append E a0 a1) [zP a0, zP a1] := by
  refine z_met hl (by decide +kernel) (by rw [zSl_len]; exact (Nat.le_of_ble_eq_true rfl)) fun p e R s m args below meth c k0 x hret hnm htab => ?_
  refine z_lv [(0, zP a0), (1, zP a1)] rfl ?_
  unfold s_J5_append
  refine z_aload_n (pc := 0) x 0 dJ5_append_0 rfl rfl ?_
  refine z_aload_n (pc := 1) x 1 dJ5_append_1 rfl rfl ?_
  refine z_call (pc := 2) (z_canSU (pc := 2) (As := [zP a1]) (st := []) x (ci := 14) rfl (fun b => m_J4_append hl (some b) a1) q1226 q3350 q317 (by decide) q1227 q117 q1228 n_J4_append ⟨by decide, by decide⟩ (Nat.le_of_ble_eq_true rfl) dJ5_append_2) (zv_R fun v2 => ?_) (fun q => zx_thr x (fun z hz => (htab z hz).elim) q)
  refine z_pop (pc := 5) x dJ5_append_5 rfl ?_
  refine z_aload_n (pc := 6) x 0 dJ5_append_6 rfl rfl ?_
  exact z_aret (pc := 7) x hret (Or.inl ⟨_, rfl⟩) dJ5_append_7
/-! X16_toString -/
def s_X16_toString_69 (E : zE) (k24 : Option Nat → Option Nat → Int32 → zM) (a0 : Option Nat) (a1 : Option Nat) (a2 : Int32) (a3 : Option Nat) (b0 : Option Nat) (b1 : Option Nat) : zM := zC (zRv b0 [(14, fun b => s_J5_append E (some b) b1)]) zThr (zKR (fun v69 => zGetI a3 37 0 (fun v73 => zGetR a0 22 2 (fun v78 => zC (zRv a3 [(37, fun b => s_X9_code E (some b) v78)]) zThr (zKI (fun v81 => zC (s_X1_textOf E v73 v81) zThr (zKR (fun v84 => zC (zRv v69 [(14, fun b => s_J5_append E (some b) v84)]) zThr (zKR (fun v87 => k24 a0 a1 (a2 + (1 : Int32))))))))))))
theorem w_X16_toString_69 (x : zCx p l R s m args meth c E D tA cX16_toString 4 yX16_toString.cls 19) (hl : l.stackTraces = false) (hret : meth.sig.returnType = (Option.some (Jvm.ClassFile.FieldType.object "java/lang/String"))) (hnm : meth.name = yX16_toString.name) (htab : ∀ z ∈ c.exceptionTable.toList, False) {k24 : Option Nat → Option Nat → Int32 → zM} (h24 : ∀ (a0 : Option Nat) (a1 : Option Nat) (a2 : Int32) , zW p l e R s m args below meth c E D tA 4 k0 (k24 a0 a1 a2) [(0, zP a0), (1, zP a1), (2, zI a2)] 24 []) (a0 : Option Nat) (a1 : Option Nat) (a2 : Int32) (a3 : Option Nat) (b0 : Option Nat) (b1 : Option Nat) : zW p l e R s m args below meth c E D tA 4 k0 (s_X16_toString_69 E k24 a0 a1 a2 a3 b0 b1) [(0, zP a0), (1, zP a1), (2, zI a2), (3, zP a3)] 69 [zP b1, zP b0] := by
  unfold s_X16_toString_69
  refine z_call (pc := 69) (z_canV (pc := 69) (As := [zP b1]) (st := []) x (ci := 14) rfl (fun b => m_J5_append hl (some b) b1) q2717 q1223 (x.2.2.2.2.1 _ q1224) q118 q1225 n_J5_append ⟨by decide, by decide⟩ (Nat.le_of_ble_eq_true rfl) dX16_toString_69) (zv_R fun v69 => ?_) (fun q => zx_thr x (fun z hz => (htab z hz).elim) q)
  refine z_aload_n (pc := 72) x 3 dX16_toString_72 rfl rfl ?_
  refine z_getN (pc := 73) (fun _ _ h => zAsI_eq h) x in_X9 (ci := 37) rfl (k := 0) (by decide) q2366 (fun _ h => h) dX16_toString_73 fun v73 => ?_
  refine z_aload_n (pc := 76) x 3 dX16_toString_76 rfl rfl ?_
  refine z_aload_n (pc := 77) x 0 dX16_toString_77 rfl rfl ?_
  refine z_get (pc := 78) (fun _ _ h => zAsR_eq h) x in_X16 (ci := 22) rfl (k := 2) (by decide) q1888 (fun _ h => h) dX16_toString_78 fun v78 => ?_
  refine z_call (pc := 81) (z_canV (pc := 81) (As := [zP v78]) (st := [zI v73, zP v69]) x (ci := 37) rfl (fun b => m_X9_code hl (some b) v78) q2726 q800 (x.2.2.2.2.1 _ q801) q143 q802 n_X9_code ⟨by decide, by decide⟩ (Nat.le_of_ble_eq_true rfl) dX16_toString_81) (zv_I fun v81 => ?_) (fun q => zx_thr x (fun z hz => (htab z hz).elim) q)
  refine z_call (pc := 84) (z_canSN (pc := 84) (As := [zI v73, zI v81]) (st := [zP v69]) x (m_X1_textOf hl v73 v81) q2727 q1326 q108 q1327 n_X1_textOf ⟨by decide, by decide⟩ (Nat.le_of_ble_eq_true rfl) dX16_toString_84) (zv_R fun v84 => ?_) (fun q => zx_thr x (fun z hz => (htab z hz).elim) q)
  refine z_call (pc := 87) (z_canV (pc := 87) (As := [zP v84]) (st := []) x (ci := 14) rfl (fun b => m_J5_append hl (some b) v84) q2717 q1223 (x.2.2.2.2.1 _ q1224) q118 q1225 n_J5_append ⟨by decide, by decide⟩ (Nat.le_of_ble_eq_true rfl) dX16_toString_87) (zv_R fun v87 => ?_) (fun q => zx_thr x (fun z hz => (htab z hz).elim) q)
  refine z_pop (pc := 90) x dX16_toString_90 rfl ?_
  refine z_iinc (pc := 91) (lv' := [(2, zI (a2 + (1 : Int32))), (0, zP a0), (1, zP a1), (3, zP a3)]) x (v2 := (a2 + (1 : Int32))) 2 dX16_toString_91 rfl rfl (Nat.le_of_ble_eq_true rfl) rfl ?_
  refine z_goto (pc := 94) (tgt := 24) x dX16_toString_94 rfl ?_
  exact z_sub [1, 2, 0] rfl (h24 a0 a1 (a2 + (1 : Int32)))
def s_X16_toString_24 (E : zE) : Nat → Option Nat → Option Nat → Int32 → zM
  | 0, _, _, _ => zFail
  | n + 1, a0, a1, a2 => zGetR a0 22 1 (fun v26 => zGetR v26 31 2 (fun v29 => zC (zRv v29 [(10, fun b => s_J2_size E (some b))]) zThr (zKI (fun v32 => if v32 ≤ a2 then (zC (zRv a1 [(14, fun b => s_J5_toString E (some b))]) zThr (zKR (fun v98 => zRet (some (va_rf v98))))) else (zGetR a0 22 1 (fun v41 => zGetR v41 31 2 (fun v44 => zC (zRv v44 [(10, fun b => s_J2_get E (some b) a2)]) zThr (zKR (fun v48 => zCsS 37 v48 (if a2 = 0 then (s_X16_toString_69 E (s_X16_toString_24 E n) a0 a1 a2 v48 a1 (some (E 29))) else (s_X16_toString_69 E (s_X16_toString_24 E n) a0 a1 a2 v48 a1 (some (E 30)))))))))))))
theorem w_X16_toString_24 (x : zCx p l R s m args meth c E D tA cX16_toString 4 yX16_toString.cls 19) (hl : l.stackTraces = false) (hret : meth.sig.returnType = (Option.some (Jvm.ClassFile.FieldType.object "java/lang/String"))) (hnm : meth.name = yX16_toString.name) (htab : ∀ z ∈ c.exceptionTable.toList, False) : ∀ (n : Nat) (a0 : Option Nat) (a1 : Option Nat) (a2 : Int32), zW p l e R s m args below meth c E D tA 4 k0 (s_X16_toString_24 E n a0 a1 a2) [(0, zP a0), (1, zP a1), (2, zI a2)] 24 [] := by
  intro n
  induction n with
  | zero => intro a0 a1 a2; exact z_fail
  | succ n h24 =>
    intro a0 a1 a2
    rw [s_X16_toString_24]
    refine z_iload_n (pc := 24) x 2 dX16_toString_24 rfl rfl ?_
    refine z_aload_n (pc := 25) x 0 dX16_toString_25 rfl rfl ?_
    refine z_get (pc := 26) (fun _ _ h => zAsR_eq h) x in_X16 (ci := 22) rfl (k := 1) (by decide) q1886 (fun _ h => h) dX16_toString_26 fun v26 => ?_
    refine z_getN (pc := 29) (fun _ _ h => zAsR_eq h) x in_X25 (ci := 31) rfl (k := 2) (by decide) q2508 (fun _ h => h) dX16_toString_29 fun v29 => ?_
    refine z_call (pc := 32) (z_canIF (pc := 32) (As := []) (st := [zI a2]) (x9 := ⟨"java/util/List", "size", "()I"⟩) x (ci := 10) rfl (fun b => m_J2_size hl (some b)) q2720 q767 q766 (by decide) q768 q770 q771 q769 q384 q112 q772 nx_java_util_List_size___I ⟨by decide, by decide⟩ (Nat.le_of_ble_eq_true rfl) dX16_toString_32) (zv_I fun v32 => ?_) (fun q => zx_thr x (fun z hz => (htab z hz).elim) q)
    refine z_icmp_ge (pc := 37) (tgt := 97) x dX16_toString_37 rfl (fun _ => ?_) (fun _ => ?_)
    · refine z_aload_n (pc := 97) x 1 dX16_toString_97 rfl rfl ?_
      refine z_call (pc := 98) (z_canV (pc := 98) (As := []) (st := []) x (ci := 14) rfl (fun b => m_J5_toString hl (some b)) q2728 q1374 (x.2.2.2.2.1 _ q1375) q118 q1376 n_J5_toString ⟨by decide, by decide⟩ (Nat.le_of_ble_eq_true rfl) dX16_toString_98) (zv_R fun v98 => ?_) (fun q => zx_thr x (fun z hz => (htab z hz).elim) q)
      exact z_aret (pc := 101) x hret (Or.inl ⟨_, rfl⟩) dX16_toString_101
    · refine z_aload_n (pc := 40) x 0 dX16_toString_40 rfl rfl ?_
      refine z_get (pc := 41) (fun _ _ h => zAsR_eq h) x in_X16 (ci := 22) rfl (k := 1) (by decide) q1886 (fun _ h => h) dX16_toString_41 fun v41 => ?_
      refine z_getN (pc := 44) (fun _ _ h => zAsR_eq h) x in_X25 (ci := 31) rfl (k := 2) (by decide) q2508 (fun _ h => h) dX16_toString_44 fun v44 => ?_
      refine z_iload_n (pc := 47) x 2 dX16_toString_47 rfl rfl ?_
      refine z_call (pc := 48) (z_canIF (pc := 48) (As := [zI a2]) (st := []) (x9 := ⟨"java/util/List", "get", "(I)Ljava/lang/Object;"⟩) x (ci := 10) rfl (fun b => m_J2_get hl (some b) a2) q2722 q845 q844 (by decide) q846 q848 q849 q847 q384 q112 q850 nx_java_util_List_get__I_Ljava_lang_Object_ ⟨by decide, by decide⟩ (Nat.le_of_ble_eq_true rfl) dX16_toString_48) (zv_R fun v48 => ?_) (fun q => zx_thr x (fun z hz => (htab z hz).elim) q)
      refine z_csS (pc := 53) x (ci := 37) rfl q2723 dX16_toString_53 ?_
      refine z_astore_n (pc := 56) (lv' := [(3, zP v48), (0, zP a0), (1, zP a1), (2, zI a2)]) x dX16_toString_56 rfl (Nat.le_of_ble_eq_true rfl) rfl ?_
      refine z_aload_n (pc := 57) x 2 dX16_toString_57 rfl rfl ?_
      refine z_iload_n (pc := 58) x 3 dX16_toString_58 rfl rfl ?_
      refine z_if_ne (pc := 59) (tgt := 67) x dX16_toString_59 rfl (fun _ => ?_) (fun _ => ?_)
      · refine z_ldcS (pc := 62) x (k := 29) (List.mem_of_getElem? (i := 13) rfl) dX16_toString_62 ?_
        refine z_goto (pc := 64) (tgt := 69) x dX16_toString_64 rfl ?_
        exact z_sub [1, 2, 3, 0] rfl (w_X16_toString_69 x hl hret hnm htab h24 a0 a1 a2 v48 a1 (some (E 29)))
      · refine z_ldcS (pc := 67) x (k := 30) (List.mem_of_getElem? (i := 14) rfl) dX16_toString_67 ?_
        exact z_sub [1, 2, 3, 0] rfl (w_X16_toString_69 x hl hret hnm htab h24 a0 a1 a2 v48 a1 (some (E 30)))
def s_X16_toString (E : zE) (a0 : Option Nat) : zM := zNew 14 4 [.null, .int 0, .int 0, .int 0] (fun v0 => zC (zSp v0 (fun b => s_J5_init E (some b))) zThr (zKV (zC (zRv v0 [(14, fun b => s_J5_append E (some b) (some (E 28)))]) zThr (zKR (fun v11 => zGetI a0 22 0 (fun v15 => zC (zRv v11 [(14, fun b => s_J5_append_3 E (some b) v15)]) zThr (zKR (fun v18 => s_X16_toString_24 E zN a0 v0 (0 : Int32)))))))))
theorem m_X16_toString {l : Launch} {E : zE} {D : va_G} {tA : Nat → ClassId} (hl : l.stackTraces = false) (a0 : Option Nat) : zMet l E D tA yX16_toString (ws_ yX16_toString cX16_toString 4 (Option.some (Jvm.ClassFile.FieldType.object "java/lang/String"))) 19 (s_X16_toString E a0) [zP a0] := by
  refine z_met hl (by decide +kernel) (by rw [zSl_len]; exact (Nat.le_of_ble_eq_true rfl)) fun p e R s m args below meth c k0 x hret hnm htab => ?_
  refine z_lv [(0, zP a0)] rfl ?_
  unfold s_X16_toString
  refine z_new (pc := 0) x in_J5 tyJ5 tyJ5_ok q2714 q287 q118 (ci := 14) rfl (by decide) (by decide +kernel) dX16_toString_0 fun v0 => ?_
  refine z_dup (pc := 3) x dX16_toString_3 rfl ?_
  refine z_call (pc := 4) (z_canI (pc := 4) (ret := none) (As := []) (st := [zP v0]) x (fun b => m_J5_init hl (some b)) q2715 rfl q289 q118 q290 n_J5_init ⟨by decide, by decide⟩ (Nat.le_of_ble_eq_true rfl) dX16_toString_4) (zv_V ?_) (fun q => zx_thr x (fun z hz => (htab z hz).elim) q)
  refine z_astore_n (pc := 7) (lv' := [(1, zP v0), (0, zP a0)]) x dX16_toString_7 rfl (Nat.le_of_ble_eq_true rfl) rfl ?_
  refine z_aload_n (pc := 8) x 0 dX16_toString_8 rfl rfl ?_
  refine z_ldcS (pc := 9) x (k := 28) (List.mem_of_getElem? (i := 12) rfl) dX16_toString_9 ?_
  refine z_call (pc := 11) (z_canV (pc := 11) (As := [zP (some (E 28))]) (st := []) x (ci := 14) rfl (fun b => m_J5_append hl (some b) (some (E 28))) q2717 q1223 (x.2.2.2.2.1 _ q1224) q118 q1225 n_J5_append ⟨by decide, by decide⟩ (Nat.le_of_ble_eq_true rfl) dX16_toString_11) (zv_R fun v11 => ?_) (fun q => zx_thr x (fun z hz => (htab z hz).elim) q)
  refine z_aload_n (pc := 14) x 1 dX16_toString_14 rfl rfl ?_
  refine z_get (pc := 15) (fun _ _ h => zAsI_eq h) x in_X16 (ci := 22) rfl (k := 0) (by decide) q1884 (fun _ h => h) dX16_toString_15 fun v15 => ?_
  refine z_call (pc := 18) (z_canV (pc := 18) (As := [zI v15]) (st := []) x (ci := 14) rfl (fun b => m_J5_append_3 hl (some b) v15) q2718 q1349 (x.2.2.2.2.1 _ q1350) q118 q1351 n_J5_append_3 ⟨by decide, by decide⟩ (Nat.le_of_ble_eq_true rfl) dX16_toString_18) (zv_R fun v18 => ?_) (fun q => zx_thr x (fun z hz => (htab z hz).elim) q)
  refine z_pop (pc := 21) x dX16_toString_21 rfl ?_
  refine z_iconst (pc := 22) x (v := (0 : Int32)) dX16_toString_22 rfl ?_
  refine z_istore_n (pc := 23) (lv' := [(2, zI (0 : Int32)), (1, zP v0), (0, zP a0)]) x dX16_toString_23 rfl (Nat.le_of_ble_eq_true rfl) rfl ?_
  exact z_sub [2, 1, 0] rfl (w_X16_toString_24 x hl hret hnm htab zN a0 v0 (0 : Int32))
/-! X2_describeStep -/
def s_X2_describeStep (E : zE) (a0 : Option Nat) (a1 : Int32) (a2 : Int32) : zM := zNew 14 4 [.null, .int 0, .int 0, .int 0] (fun v0 => zC (zSp v0 (fun b => s_J5_init E (some b))) zThr (zKV (zC (s_X1_textOf E a1 a2) zThr (zKR (fun v11 => zC (zRv v0 [(14, fun b => s_J5_append E (some b) v11)]) zThr (zKR (fun v14 => zGetR a0 26 0 (fun v19 => zC (zRv v19 [(32, fun b => s_X4_has E (some b) a1 a2)]) zThr (zKI (fun v24 => if v24 = 0 then (zNew 18 2 [.null, .null] (fun v42 => zC (zSp v42 (fun b => s_X12_init E (some b) a0)) zThr (zKV (zC (zRv v42 [(18, fun b => s_X12_inRounds E (some b))]) zThr (zKR (fun v50 => zC (zRv v50 [(18, fun b => s_X12_step E (some b) a1 a2)]) zThr (zKR (fun v55 => zC (zRv v55 [(22, fun b => s_X16_toString E (some b))]) zThr (zKR (fun v58 => zC (zRv v0 [(14, fun b => s_J5_append E (some b) v58)]) zThr (zKR (fun v61 => zC (zRv v61 [(14, fun b => s_J5_toString E (some b))]) zThr (zKR (fun v64 => zRet (some (va_rf v64)))))))))))))))) else (zC (zRv v0 [(14, fun b => s_J5_append E (some b) (some (E 33)))]) zThr (zKR (fun v34 => zC (zRv v34 [(14, fun b => s_J5_toString E (some b))]) zThr (zKR (fun v37 => zRet (some (va_rf v37)))))))))))))))))
theorem m_X2_describeStep {l : Launch} {E : zE} {D : va_G} {tA : Nat → ClassId} (hl : l.stackTraces = false) (a0 : Option Nat) (a1 : Int32) (a2 : Int32) : zMet l E D tA yX2_describeStep (ws_ yX2_describeStep cX2_describeStep 4 (Option.some (Jvm.ClassFile.FieldType.object "java/lang/String"))) 75 (s_X2_describeStep E a0 a1 a2) [zP a0, zI a1, zI a2] := by
  refine z_met hl (by decide +kernel) (by rw [zSl_len]; exact (Nat.le_of_ble_eq_true rfl)) fun p e R s m args below meth c k0 x hret hnm htab => ?_
  refine z_lv [(0, zP a0), (1, zI a1), (2, zI a2)] rfl ?_
  unfold s_X2_describeStep
  refine z_new (pc := 0) x in_J5 tyJ5 tyJ5_ok q1210 q287 q118 (ci := 14) rfl (by decide) (by decide +kernel) dX2_describeStep_0 fun v0 => ?_
  refine z_dup (pc := 3) x dX2_describeStep_3 rfl ?_
  refine z_call (pc := 4) (z_canI (pc := 4) (ret := none) (As := []) (st := [zP v0]) x (fun b => m_J5_init hl (some b)) q1211 rfl q289 q118 q290 n_J5_init ⟨by decide, by decide⟩ (Nat.le_of_ble_eq_true rfl) dX2_describeStep_4) (zv_V ?_) (fun q => zx_thr x (fun z hz => (htab z hz).elim) q)
  refine z_astore_n (pc := 7) (lv' := [(3, zP v0), (0, zP a0), (1, zI a1), (2, zI a2)]) x dX2_describeStep_7 rfl (Nat.le_of_ble_eq_true rfl) rfl ?_
  refine z_aload_n (pc := 8) x 0 dX2_describeStep_8 rfl rfl ?_
  refine z_iload_n (pc := 9) x 2 dX2_describeStep_9 rfl rfl ?_
  refine z_iload_n (pc := 10) x 3 dX2_describeStep_10 rfl rfl ?_
  refine z_call (pc := 11) (z_canSN (pc := 11) (As := [zI a1, zI a2]) (st := [zP v0]) x (m_X1_textOf hl a1 a2) q1325 q1326 q108 q1327 n_X1_textOf ⟨by decide, by decide⟩ (Nat.le_of_ble_eq_true rfl) dX2_describeStep_11) (zv_R fun v11 => ?_) (fun q => zx_thr x (fun z hz => (htab z hz).elim) q)
  refine z_call (pc := 14) (z_canV (pc := 14) (As := [zP v11]) (st := []) x (ci := 14) rfl (fun b => m_J5_append hl (some b) v11) q1222 q1223 (x.2.2.2.2.1 _ q1224) q118 q1225 n_J5_append ⟨by decide, by decide⟩ (Nat.le_of_ble_eq_true rfl) dX2_describeStep_14) (zv_R fun v14 => ?_) (fun q => zx_thr x (fun z hz => (htab z hz).elim) q)
  refine z_pop (pc := 17) x dX2_describeStep_17 rfl ?_
  refine z_aload_n (pc := 18) x 1 dX2_describeStep_18 rfl rfl ?_
  refine z_get (pc := 19) (fun _ _ h => zAsR_eq h) x in_X2 (ci := 26) rfl (k := 0) (by decide) q248 (fun _ h => h) dX2_describeStep_19 fun v19 => ?_
  refine z_iload_n (pc := 22) x 2 dX2_describeStep_22 rfl rfl ?_
  refine z_iload_n (pc := 23) x 3 dX2_describeStep_23 rfl rfl ?_
  refine z_call (pc := 24) (z_canV (pc := 24) (As := [zI a1, zI a2]) (st := []) x (ci := 32) rfl (fun b => m_X4_has hl (some b) a1 a2) q1212 q814 (x.2.2.2.2.1 _ q815) q114 q816 n_X4_has ⟨by decide, by decide⟩ (Nat.le_of_ble_eq_true rfl) dX2_describeStep_24) (zv_I fun v24 => ?_) (fun q => zx_thr x (fun z hz => (htab z hz).elim) q)
  refine z_if_eq (pc := 27) (tgt := 41) x dX2_describeStep_27 rfl (fun _ => ?_) (fun _ => ?_)
  · refine z_aload_n (pc := 41) x 0 dX2_describeStep_41 rfl rfl ?_
    refine z_new (pc := 42) x in_X12 tyX12 tyX12_ok q990 q952 q148 (ci := 18) rfl (by decide) (by decide +kernel) dX2_describeStep_42 fun v42 => ?_
    refine z_dup (pc := 45) x dX2_describeStep_45 rfl ?_
    refine z_aload_n (pc := 46) x 1 dX2_describeStep_46 rfl rfl ?_
    refine z_call (pc := 47) (z_canI (pc := 47) (ret := none) (As := [zP a0]) (st := [zP v42, zP v0]) x (fun b => m_X12_init hl (some b) a0) q991 rfl q992 q148 q993 n_X12_init ⟨by decide, by decide⟩ (Nat.le_of_ble_eq_true rfl) dX2_describeStep_47) (zv_V ?_) (fun q => zx_thr x (fun z hz => (htab z hz).elim) q)
    refine z_call (pc := 50) (z_canV (pc := 50) (As := []) (st := [zP v0]) x (ci := 18) rfl (fun b => m_X12_inRounds hl (some b)) q1008 q1009 (x.2.2.2.2.1 _ q1010) q148 q1011 n_X12_inRounds ⟨by decide, by decide⟩ (Nat.le_of_ble_eq_true rfl) dX2_describeStep_50) (zv_R fun v50 => ?_) (fun q => zx_thr x (fun z hz => (htab z hz).elim) q)
    refine z_iload_n (pc := 53) x 2 dX2_describeStep_53 rfl rfl ?_
    refine z_iload_n (pc := 54) x 3 dX2_describeStep_54 rfl rfl ?_
    refine z_call (pc := 55) (z_canV (pc := 55) (As := [zI a1, zI a2]) (st := [zP v0]) x (ci := 18) rfl (fun b => m_X12_step hl (some b) a1 a2) q2709 q1844 (x.2.2.2.2.1 _ q1845) q148 q1846 n_X12_step ⟨by decide, by decide⟩ (Nat.le_of_ble_eq_true rfl) dX2_describeStep_55) (zv_R fun v55 => ?_) (fun q => zx_thr x (fun z hz => (htab z hz).elim) q)
    refine z_call (pc := 58) (z_canV (pc := 58) (As := []) (st := [zP v0]) x (ci := 22) rfl (fun b => m_X16_toString hl (some b)) q2710 q2711 (x.2.2.2.2.1 _ q2712) q152 q2713 n_X16_toString ⟨by decide, by decide⟩ (Nat.le_of_ble_eq_true rfl) dX2_describeStep_58) (zv_R fun v58 => ?_) (fun q => zx_thr x (fun z hz => (htab z hz).elim) q)
    refine z_call (pc := 61) (z_canV (pc := 61) (As := [zP v58]) (st := []) x (ci := 14) rfl (fun b => m_J5_append hl (some b) v58) q1222 q1223 (x.2.2.2.2.1 _ q1224) q118 q1225 n_J5_append ⟨by decide, by decide⟩ (Nat.le_of_ble_eq_true rfl) dX2_describeStep_61) (zv_R fun v61 => ?_) (fun q => zx_thr x (fun z hz => (htab z hz).elim) q)
    refine z_call (pc := 64) (z_canV (pc := 64) (As := []) (st := []) x (ci := 14) rfl (fun b => m_J5_toString hl (some b)) q1449 q1374 (x.2.2.2.2.1 _ q1375) q118 q1376 n_J5_toString ⟨by decide, by decide⟩ (Nat.le_of_ble_eq_true rfl) dX2_describeStep_64) (zv_R fun v64 => ?_) (fun q => zx_thr x (fun z hz => (htab z hz).elim) q)
    exact z_aret (pc := 67) x hret (Or.inl ⟨_, rfl⟩) dX2_describeStep_67
  · refine z_aload_n (pc := 30) x 0 dX2_describeStep_30 rfl rfl ?_
    refine z_ldcwS (pc := 31) x (k := 33) (List.mem_of_getElem? (i := 17) rfl) dX2_describeStep_31 ?_
    refine z_call (pc := 34) (z_canV (pc := 34) (As := [zP (some (E 33))]) (st := []) x (ci := 14) rfl (fun b => m_J5_append hl (some b) (some (E 33))) q1222 q1223 (x.2.2.2.2.1 _ q1224) q118 q1225 n_J5_append ⟨by decide, by decide⟩ (Nat.le_of_ble_eq_true rfl) dX2_describeStep_34) (zv_R fun v34 => ?_) (fun q => zx_thr x (fun z hz => (htab z hz).elim) q)
    refine z_call (pc := 37) (z_canV (pc := 37) (As := []) (st := []) x (ci := 14) rfl (fun b => m_J5_toString hl (some b)) q1449 q1374 (x.2.2.2.2.1 _ q1375) q118 q1376 n_J5_toString ⟨by decide, by decide⟩ (Nat.le_of_ble_eq_true rfl) dX2_describeStep_37) (zv_R fun v37 => ?_) (fun q => zx_thr x (fun z hz => (htab z hz).elim) q)
    exact z_aret (pc := 40) x hret (Or.inl ⟨_, rfl⟩) dX2_describeStep_40
/-! X1_writeStep -/
def s_X1_writeStep (E : zE) (a0 : Option Nat) (a1 : Int32) (a2 : Int32) (a3 : Int32) : zM := zC (zRv a0 [(16, fun b => s_X1_requireTrue E (some b) a1 a2 a3)]) zThr (zKI (fun v4 => zGetR a0 16 0 (fun v11 => zC (zRv v11 [(26, fun b => s_X2_describeStep E (some b) (a1 - (97 : Int32)) v4)]) zThr (zKR (fun v20 => zC (zRv a0 [(16, fun b => s_X1_write E (some b) v20)]) zThr (zKI (fun v23 => zRet (some (.int v23)))))))))
theorem m_X1_writeStep {l : Launch} {E : zE} {D : va_G} {tA : Nat → ClassId} (hl : l.stackTraces = false) (a0 : Option Nat) (a1 : Int32) (a2 : Int32) (a3 : Int32) : zMet l E D tA yX1_writeStep (ws_ yX1_writeStep cX1_writeStep 5 (Option.some Jvm.ClassFile.FieldType.int)) 76 (s_X1_writeStep E a0 a1 a2 a3) [zP a0, zI a1, zI a2, zI a3] := by
  refine z_met hl (by decide +kernel) (by rw [zSl_len]; exact (Nat.le_of_ble_eq_true rfl)) fun p e R s m args below meth c k0 x hret hnm htab => ?_
  refine z_lv [(0, zP a0), (1, zI a1), (2, zI a2), (3, zI a3)] rfl ?_
  unfold s_X1_writeStep
  refine z_aload_n (pc := 0) x 0 dX1_writeStep_0 rfl rfl ?_
  refine z_iload_n (pc := 1) x 1 dX1_writeStep_1 rfl rfl ?_
  refine z_iload_n (pc := 2) x 2 dX1_writeStep_2 rfl rfl ?_
  refine z_iload_n (pc := 3) x 3 dX1_writeStep_3 rfl rfl ?_
  refine z_call (pc := 4) (z_canV (pc := 4) (As := [zI a1, zI a2, zI a3]) (st := []) x (ci := 16) rfl (fun b => m_X1_requireTrue hl (some b) a1 a2 a3) q1813 q1815 (z_selP x (ci := 16) rfl (by decide) (zNi_inst x q168) q1814 q1815) q108 q1816 n_X1_requireTrue ⟨by decide, by decide⟩ (Nat.le_of_ble_eq_true rfl) dX1_writeStep_4) (zv_I fun v4 => ?_) (fun q => zx_thr x (fun z hz => (htab z hz).elim) q)
  refine z_istore (pc := 7) (lv' := [(4, zI v4), (0, zP a0), (1, zI a1), (2, zI a2), (3, zI a3)]) x dX1_writeStep_7 (Nat.le_of_ble_eq_true rfl) rfl ?_
  refine z_aload_n (pc := 9) x 1 dX1_writeStep_9 rfl rfl ?_
  refine z_aload_n (pc := 10) x 1 dX1_writeStep_10 rfl rfl ?_
  refine z_get (pc := 11) (fun _ _ h => zAsR_eq h) x in_X1 (ci := 16) rfl (k := 0) (by decide) q320 (fun _ h => h) dX1_writeStep_11 fun v11 => ?_
  refine z_iload_n (pc := 14) x 2 dX1_writeStep_14 rfl rfl ?_
  refine z_bipush (pc := 15) x (v := (97 : Int32)) dX1_writeStep_15 rfl ?_
  refine z_isub (pc := 17) x dX1_writeStep_17 ?_
  refine z_iload (pc := 18) x 0 dX1_writeStep_18 rfl ?_
  refine z_call (pc := 20) (z_canV (pc := 20) (As := [zI (a1 - (97 : Int32)), zI v4]) (st := [zP a0]) x (ci := 26) rfl (fun b => m_X2_describeStep hl (some b) (a1 - (97 : Int32)) v4) q2704 q2705 (x.2.2.2.2.1 _ q2706) q109 q2707 n_X2_describeStep ⟨by decide, by decide⟩ (Nat.le_of_ble_eq_true rfl) dX1_writeStep_20) (zv_R fun v20 => ?_) (fun q => zx_thr x (fun z hz => (htab z hz).elim) q)
  refine z_call (pc := 23) (z_canV (pc := 23) (As := [zP v20]) (st := []) x (ci := 16) rfl (fun b => m_X1_write hl (some b) v20) q1450 q1452 (z_selP x (ci := 16) rfl (by decide) (zNi_inst x q168) q1451 q1452) q108 q1453 n_X1_write ⟨by decide, by decide⟩ (Nat.le_of_ble_eq_true rfl) dX1_writeStep_23) (zv_I fun v23 => ?_) (fun q => zx_thr x (fun z hz => (htab z hz).elim) q)
  exact z_iret (pc := 26) x hret dX1_writeStep_26
/-! X0_writeStep -/
def s_X0_writeStep_15 (E : zE) (b0 : Option Nat) : zM := zRet (some (.int (1 : Int32)))
theorem w_X0_writeStep_15 (x : zCx p l R s m args meth c E D tA cX0_writeStep 6 yX0_writeStep.cls 77) (hl : l.stackTraces = false) (hret : meth.sig.returnType = (Option.some Jvm.ClassFile.FieldType.int)) (hnm : meth.name = yX0_writeStep.name) (htab : c.exceptionTable.toList = tableOf [(0, 12, 15, 13), (0, 12, 19, 22)]) (b0 : Option Nat) : zW p l e R s m args below meth c E D tA 6 k0 (s_X0_writeStep_15 E b0) [] 15 [zP b0] := by
  unfold s_X0_writeStep_15
  refine z_astore (pc := 15) (lv' := [(5, zP b0)]) x dX0_writeStep_15 (Nat.le_of_ble_eq_true rfl) rfl ?_
  refine z_iconst (pc := 17) x (v := (1 : Int32)) dX0_writeStep_17 rfl ?_
  exact z_iret (pc := 18) x hret dX0_writeStep_18
def s_X0_writeStep_19 (E : zE) (b0 : Option Nat) : zM := zRet (some (.int (2 : Int32)))
theorem w_X0_writeStep_19 (x : zCx p l R s m args meth c E D tA cX0_writeStep 6 yX0_writeStep.cls 77) (hl : l.stackTraces = false) (hret : meth.sig.returnType = (Option.some Jvm.ClassFile.FieldType.int)) (hnm : meth.name = yX0_writeStep.name) (htab : c.exceptionTable.toList = tableOf [(0, 12, 15, 13), (0, 12, 19, 22)]) (b0 : Option Nat) : zW p l e R s m args below meth c E D tA 6 k0 (s_X0_writeStep_19 E b0) [] 19 [zP b0] := by
  unfold s_X0_writeStep_19
  refine z_astore (pc := 19) (lv' := [(5, zP b0)]) x dX0_writeStep_19 (Nat.le_of_ble_eq_true rfl) rfl ?_
  refine z_iconst (pc := 21) x (v := (2 : Int32)) dX0_writeStep_21 rfl ?_
  exact z_iret (pc := 22) x hret dX0_writeStep_22
def s_X0_writeStep (E : zE) (a0 : Option Nat) (a1 : Int32) (a2 : Int32) (a3 : Int32) (a4 : Option Nat) : zM := zC (zRv a0 [(16, fun b => s_X1_writeStep E (some b) a1 a2 a3)]) (fun q => zCat1 q [(0, s_X0_writeStep_15 E (some q)), (6, s_X0_writeStep_19 E (some q))]) (zKI (fun v7 => zSaL E 3 a4 (0 : Int32) ((v7).toInt64) (zRet (some (.int (0 : Int32))))))
theorem m_X0_writeStep {l : Launch} {E : zE} {D : va_G} {tA : Nat → ClassId} (hl : l.stackTraces = false) (a0 : Option Nat) (a1 : Int32) (a2 : Int32) (a3 : Int32) (a4 : Option Nat) : zMet l E D tA yX0_writeStep (wsW_ yX0_writeStep cX0_writeStep 6 (Option.some Jvm.ClassFile.FieldType.int) [(0, 12, 15, 13), (0, 12, 19, 22)]) 77 (s_X0_writeStep E a0 a1 a2 a3 a4) [zP a0, zI a1, zI a2, zI a3, zP a4] := by
  refine z_metW hl (by decide +kernel) (by rw [zSl_len]; exact (Nat.le_of_ble_eq_true rfl)) fun p e R s m args below meth c k0 x hret hnm htab => ?_
  refine z_lv [(0, zP a0), (1, zI a1), (2, zI a2), (3, zI a3), (4, zP a4)] rfl ?_
  unfold s_X0_writeStep
  refine z_aload (pc := 0) x 4 dX0_writeStep_0 rfl ?_
  refine z_iconst (pc := 2) x (v := (0 : Int32)) dX0_writeStep_2 rfl ?_
  refine z_aload_n (pc := 3) x 0 dX0_writeStep_3 rfl rfl ?_
  refine z_iload_n (pc := 4) x 1 dX0_writeStep_4 rfl rfl ?_
  refine z_iload_n (pc := 5) x 2 dX0_writeStep_5 rfl rfl ?_
  refine z_iload_n (pc := 6) x 3 dX0_writeStep_6 rfl rfl ?_
  refine z_call (pc := 7) (z_canV (pc := 7) (As := [zI a1, zI a2, zI a3]) (st := [zI (0 : Int32), zP a4]) x (ci := 16) rfl (fun b => m_X1_writeStep hl (some b) a1 a2 a3) q2700 q2701 (x.2.2.2.2.1 _ q2702) q108 q2703 n_X1_writeStep ⟨by decide, by decide⟩ (Nat.le_of_ble_eq_true rfl) dX0_writeStep_7) (zv_I fun v7 => ?_) (fun q => zx_cat x [(0, s_X0_writeStep_15 E (some q), ⟨0, 12, 15, 13⟩), (6, s_X0_writeStep_19 E (some q), ⟨0, 12, 19, 22⟩)] htab (List.forall_mem_cons.mpr ⟨⟨rfl, (show (13 : Nat) ≠ 0 by decide), q1462, z_sub [] rfl (w_X0_writeStep_15 x hl hret hnm htab (some q))⟩, (List.forall_mem_cons.mpr ⟨⟨rfl, (show (22 : Nat) ≠ 0 by decide), q1642, z_sub [] rfl (w_X0_writeStep_19 x hl hret hnm htab (some q))⟩, (fun _ hj => nomatch hj)⟩)⟩))
  refine z_i2l (pc := 10) x dX0_writeStep_10 ?_
  refine z_last (pc := 11) x (t := 3) rfl dX0_writeStep_11 ?_
  refine z_goto (pc := 12) (tgt := 23) x dX0_writeStep_12 rfl ?_
  refine z_iconst (pc := 23) x (v := (0 : Int32)) dX0_writeStep_23 rfl ?_
  exact z_iret (pc := 24) x hret dX0_writeStep_24
/-! X1_outputAt -/
def s_X1_outputAt (E : zE) (a0 : Option Nat) (a1 : Int32) : zM := zGetR a0 16 5 (fun v2 => zC (zRv v2 [(15, fun b => s_J6_length E (some b))]) zThr (zKI (fun v5 => zC (s_X1_requireIndex E a1 v5) zThr (zKV (zGetR a0 16 5 (fun v12 => zC (zRv v12 [(15, fun b => s_J6_charAt E (some b) a1)]) zThr (zKI (fun v16 => zRetN .char v16))))))))
theorem m_X1_outputAt {l : Launch} {E : zE} {D : va_G} {tA : Nat → ClassId} (hl : l.stackTraces = false) (a0 : Option Nat) (a1 : Int32) : zMet l E D tA yX1_outputAt (ws_ yX1_outputAt cX1_outputAt 2 (Option.some Jvm.ClassFile.FieldType.char)) 14 (s_X1_outputAt E a0 a1) [zP a0, zI a1] := by
  refine z_met hl (by decide +kernel) (by rw [zSl_len]; exact (Nat.le_of_ble_eq_true rfl)) fun p e R s m args below meth c k0 x hret hnm htab => ?_
  refine z_lv [(0, zP a0), (1, zI a1)] rfl ?_
  unfold s_X1_outputAt
  refine z_iload_n (pc := 0) x 1 dX1_outputAt_0 rfl rfl ?_
  refine z_aload_n (pc := 1) x 0 dX1_outputAt_1 rfl rfl ?_
  refine z_get (pc := 2) (fun _ _ h => zAsR_eq h) x in_X1 (ci := 16) rfl (k := 5) (by decide) q326 (fun _ h => h) dX1_outputAt_2 fun v2 => ?_
  refine z_call (pc := 5) (z_canV (pc := 5) (As := []) (st := [zI a1]) x (ci := 15) rfl (fun b => m_J6_length hl (some b)) q1454 q1283 (x.2.2.2.2.1 _ q1284) q119 q1285 n_J6_length ⟨by decide, by decide⟩ (Nat.le_of_ble_eq_true rfl) dX1_outputAt_5) (zv_I fun v5 => ?_) (fun q => zx_thr x (fun z hz => (htab z hz).elim) q)
  refine z_call (pc := 8) (z_canS (pc := 8) (As := [zI a1, zI v5]) (st := []) x (m_X1_requireIndex hl a1 v5) q1966 q1703 q108 q1704 n_X1_requireIndex ⟨by decide, by decide⟩ (Nat.le_of_ble_eq_true rfl) dX1_outputAt_8) (zv_V ?_) (fun q => zx_thr x (fun z hz => (htab z hz).elim) q)
  refine z_aload_n (pc := 11) x 0 dX1_outputAt_11 rfl rfl ?_
  refine z_get (pc := 12) (fun _ _ h => zAsR_eq h) x in_X1 (ci := 16) rfl (k := 5) (by decide) q326 (fun _ h => h) dX1_outputAt_12 fun v12 => ?_
  refine z_iload_n (pc := 15) x 1 dX1_outputAt_15 rfl rfl ?_
  refine z_call (pc := 16) (z_canV (pc := 16) (As := [zI a1]) (st := []) x (ci := 15) rfl (fun b => m_J6_charAt hl (some b) a1) q2736 q2247 (x.2.2.2.2.1 _ q2248) q119 q2249 n_J6_charAt ⟨by decide, by decide⟩ (Nat.le_of_ble_eq_true rfl) dX1_outputAt_16) (zv_I fun v16 => ?_) (fun q => zx_thr x (fun z hz => (htab z hz).elim) q)
  exact z_zret (pc := 19) x hret dX1_outputAt_19
/-! X0_outputAt -/
def s_X0_outputAt_12 (E : zE) (b0 : Option Nat) : zM := zRet (some (.int (1 : Int32)))
theorem w_X0_outputAt_12 (x : zCx p l R s m args meth c E D tA cX0_outputAt 4 yX0_outputAt.cls 15) (hl : l.stackTraces = false) (hret : meth.sig.returnType = (Option.some Jvm.ClassFile.FieldType.int)) (hnm : meth.name = yX0_outputAt.name) (htab : c.exceptionTable.toList = tableOf [(0, 9, 12, 28)]) (b0 : Option Nat) : zW p l e R s m args below meth c E D tA 4 k0 (s_X0_outputAt_12 E b0) [] 12 [zP b0] := by
  unfold s_X0_outputAt_12
  refine z_astore_n (pc := 12) (lv' := [(3, zP b0)]) x dX0_outputAt_12 rfl (Nat.le_of_ble_eq_true rfl) rfl ?_
  refine z_iconst (pc := 13) x (v := (1 : Int32)) dX0_outputAt_13 rfl ?_
  exact z_iret (pc := 14) x hret dX0_outputAt_14
def s_X0_outputAt (E : zE) (a0 : Option Nat) (a1 : Int32) (a2 : Option Nat) : zM := zC (zRv a0 [(16, fun b => s_X1_outputAt E (some b) a1)]) (fun q => zCat1 q [(8, s_X0_outputAt_12 E (some q))]) (zKI (fun v4 => zSaL E 3 a2 (0 : Int32) ((v4).toInt64) (zRet (some (.int (0 : Int32))))))
theorem m_X0_outputAt {l : Launch} {E : zE} {D : va_G} {tA : Nat → ClassId} (hl : l.stackTraces = false) (a0 : Option Nat) (a1 : Int32) (a2 : Option Nat) : zMet l E D tA yX0_outputAt (wsW_ yX0_outputAt cX0_outputAt 4 (Option.some Jvm.ClassFile.FieldType.int) [(0, 9, 12, 28)]) 15 (s_X0_outputAt E a0 a1 a2) [zP a0, zI a1, zP a2] := by
  refine z_metW hl (by decide +kernel) (by rw [zSl_len]; exact (Nat.le_of_ble_eq_true rfl)) fun p e R s m args below meth c k0 x hret hnm htab => ?_
  refine z_lv [(0, zP a0), (1, zI a1), (2, zP a2)] rfl ?_
  unfold s_X0_outputAt
  refine z_aload_n (pc := 0) x 2 dX0_outputAt_0 rfl rfl ?_
  refine z_iconst (pc := 1) x (v := (0 : Int32)) dX0_outputAt_1 rfl ?_
  refine z_aload_n (pc := 2) x 0 dX0_outputAt_2 rfl rfl ?_
  refine z_iload_n (pc := 3) x 1 dX0_outputAt_3 rfl rfl ?_
  refine z_call (pc := 4) (z_canV (pc := 4) (As := [zI a1]) (st := [zI (0 : Int32), zP a2]) x (ci := 16) rfl (fun b => m_X1_outputAt hl (some b) a1) q2732 q2733 (x.2.2.2.2.1 _ q2734) q108 q2735 n_X1_outputAt ⟨by decide, by decide⟩ (Nat.le_of_ble_eq_true rfl) dX0_outputAt_4) (zv_I fun v4 => ?_) (fun q => zx_cat x [(8, s_X0_outputAt_12 E (some q), ⟨0, 9, 12, 28⟩)] htab (List.forall_mem_cons.mpr ⟨⟨rfl, (show (28 : Nat) ≠ 0 by decide), q1673, z_sub [] rfl (w_X0_outputAt_12 x hl hret hnm htab (some q))⟩, (fun _ hj => nomatch hj)⟩))
  refine z_i2l (pc := 7) x dX0_outputAt_7 ?_
  refine z_last (pc := 8) x (t := 3) rfl dX0_outputAt_8 ?_
  refine z_goto (pc := 9) (tgt := 15) x dX0_outputAt_9 rfl ?_
  refine z_iconst (pc := 15) x (v := (0 : Int32)) dX0_outputAt_15 rfl ?_
  exact z_iret (pc := 16) x hret dX0_outputAt_16
/-! J3_dec -/
def s_J3_dec (E : zE) (a0 : Int32) (a1 : Int32) : zM := if 0 ≤ (a0 + (-1 : Int32)) then (zRet (some (.int (a0 + (-1 : Int32))))) else (zRet (some (.int (a1 - (1 : Int32)))))
theorem m_J3_dec {l : Launch} {E : zE} {D : va_G} {tA : Nat → ClassId} (hl : l.stackTraces = false) (a0 : Int32) (a1 : Int32) : zMet l E D tA yJ3_dec (ws_ yJ3_dec cJ3_dec 2 (Option.some Jvm.ClassFile.FieldType.int)) 9 (s_J3_dec E a0 a1) [zI a0, zI a1] := by
  refine z_met hl (by decide +kernel) (by rw [zSl_len]; exact (Nat.le_of_ble_eq_true rfl)) fun p e R s m args below meth c k0 x hret hnm htab => ?_
  refine z_lv [(0, zI a0), (1, zI a1)] rfl ?_
  unfold s_J3_dec
  refine z_iinc (pc := 0) (lv' := [(0, zI (a0 + (-1 : Int32))), (1, zI a1)]) x (v2 := (a0 + (-1 : Int32))) 0 dJ3_dec_0 rfl rfl (Nat.le_of_ble_eq_true rfl) rfl ?_
  refine z_iload_n (pc := 3) x 0 dJ3_dec_3 rfl rfl ?_
  refine z_if_ge (pc := 4) (tgt := 11) x dJ3_dec_4 rfl (fun _ => ?_) (fun _ => ?_)
  · refine z_iload_n (pc := 11) x 0 dJ3_dec_11 rfl rfl ?_
    exact z_iret (pc := 12) x hret dJ3_dec_12
  · refine z_iload_n (pc := 7) x 1 dJ3_dec_7 rfl rfl ?_
    refine z_iconst (pc := 8) x (v := (1 : Int32)) dJ3_dec_8 rfl ?_
    refine z_isub (pc := 9) x dJ3_dec_9 ?_
    refine z_istore_n (pc := 10) (lv' := [(0, zI (a1 - (1 : Int32))), (1, zI a1)]) x dJ3_dec_10 rfl (Nat.le_of_ble_eq_true rfl) rfl ?_
    refine z_iload_n (pc := 11) x 0 dJ3_dec_11 rfl rfl ?_
    exact z_iret (pc := 12) x hret dJ3_dec_12
/-! J3_pollLast -/
def s_J3_pollLast (E : zE) (a0 : Option Nat) : zM := zGetR a0 13 0 (fun v1 => zGetI a0 13 2 (fun v7 => zLen v1 (fun v11 => zC (s_J3_dec E v7 v11) zThr (zKI (fun v12 => zC (s_J3_elementAt E v1 v12) zThr (zKR (fun v17 => if v17 = none then (zRet (some (va_rf v17))) else (zSet E a0 13 2 (zVal (zI v12)) (zSaR E 5 1 v1 v12 none (zRet (some (va_rf v17))))))))))))
theorem m_J3_pollLast {l : Launch} {E : zE} {D : va_G} {tA : Nat → ClassId} (hl : l.stackTraces = false) (a0 : Option Nat) : zMet l E D tA yJ3_pollLast (ws_ yJ3_pollLast cJ3_pollLast 4 (Option.some (Jvm.ClassFile.FieldType.object "java/lang/Object"))) 10 (s_J3_pollLast E a0) [zP a0] := by
  refine z_met hl (by decide +kernel) (by rw [zSl_len]; exact (Nat.le_of_ble_eq_true rfl)) fun p e R s m args below meth c k0 x hret hnm htab => ?_
  refine z_lv [(0, zP a0)] rfl ?_
  unfold s_J3_pollLast
  refine z_aload_n (pc := 0) x 0 dJ3_pollLast_0 rfl rfl ?_
  refine z_get (pc := 1) (fun _ _ h => zAsR_eq h) x in_J3 (ci := 13) rfl (k := 0) (by decide) q276 (fun _ h => h) dJ3_pollLast_1 fun v1 => ?_
  refine z_dup (pc := 4) x dJ3_pollLast_4 rfl ?_
  refine z_astore_n (pc := 5) (lv' := [(1, zP v1), (0, zP a0)]) x dJ3_pollLast_5 rfl (Nat.le_of_ble_eq_true rfl) rfl ?_
  refine z_aload_n (pc := 6) x 1 dJ3_pollLast_6 rfl rfl ?_
  refine z_get (pc := 7) (fun _ _ h => zAsI_eq h) x in_J3 (ci := 13) rfl (k := 2) (by decide) q278 (fun _ h => h) dJ3_pollLast_7 fun v7 => ?_
  refine z_aload_n (pc := 10) x 0 dJ3_pollLast_10 rfl rfl ?_
  refine z_len (pc := 11) x dJ3_pollLast_11 fun v11 => ?_
  refine z_call (pc := 12) (z_canS (pc := 12) (As := [zI v7, zI v11]) (st := [zP v1]) x (m_J3_dec hl v7 v11) q2758 q2759 q116 q2760 n_J3_dec ⟨by decide, by decide⟩ (Nat.le_of_ble_eq_true rfl) dJ3_pollLast_12) (zv_I fun v12 => ?_) (fun q => zx_thr x (fun z hz => (htab z hz).elim) q)
  refine z_dup (pc := 15) x dJ3_pollLast_15 rfl ?_
  refine z_istore_n (pc := 16) (lv' := [(2, zI v12), (1, zP v1), (0, zP a0)]) x dJ3_pollLast_16 rfl (Nat.le_of_ble_eq_true rfl) rfl ?_
  refine z_call (pc := 17) (z_canS (pc := 17) (As := [zP v1, zI v12]) (st := []) x (m_J3_elementAt hl v1 v12) q1605 q1606 q116 q1607 n_J3_elementAt ⟨by decide, by decide⟩ (Nat.le_of_ble_eq_true rfl) dJ3_pollLast_17) (zv_R fun v17 => ?_) (fun q => zx_thr x (fun z hz => (htab z hz).elim) q)
  refine z_astore_n (pc := 20) (lv' := [(3, zP v17), (2, zI v12), (1, zP v1), (0, zP a0)]) x dJ3_pollLast_20 rfl (Nat.le_of_ble_eq_true rfl) rfl ?_
  refine z_aload_n (pc := 21) x 0 dJ3_pollLast_21 rfl rfl ?_
  refine z_ifnull (pc := 22) (tgt := 34) x dJ3_pollLast_22 rfl (fun _ => ?_) (fun _ => ?_)
  · refine z_aload_n (pc := 34) x 0 dJ3_pollLast_34 rfl rfl ?_
    exact z_aret (pc := 35) x hret (Or.inl ⟨_, rfl⟩) dJ3_pollLast_35
  · refine z_aload_n (pc := 25) x 2 dJ3_pollLast_25 rfl rfl ?_
    refine z_aload_n (pc := 26) x 3 dJ3_pollLast_26 rfl rfl ?_
    refine z_iload_n (pc := 27) x 1 dJ3_pollLast_27 rfl rfl ?_
    refine z_dup_x1 (pc := 28) x dJ3_pollLast_28 rfl rfl ?_
    refine z_set (pc := 29) (v := zI v12) x in_J3 tyJ3 tyJ3_ok nmJ3 (ci := 13) rfl (k := 2) (by decide) q278 (fun _ h => h) rfl rfl rfl dJ3_pollLast_29 ?_
    refine z_null (pc := 32) x dJ3_pollLast_32 ?_
    refine z_aast (pc := 33) x (t := 5) (tg := 1) rfl rfl dJ3_pollLast_33 ?_
    refine z_aload_n (pc := 34) x 0 dJ3_pollLast_34 rfl rfl ?_
    exact z_aret (pc := 35) x hret (Or.inl ⟨_, rfl⟩) dJ3_pollLast_35
/-! J3_removeLast -/
def s_J3_removeLast (E : zE) (a0 : Option Nat) : zM := zC (zRv a0 [(13, fun b => s_J3_pollLast E (some b))]) zThr (zKR (fun v1 => if v1 = none then (zNew 6 6 [] (fun v9 => zAth v9 zThr)) else (zRet (some (va_rf v1)))))
theorem m_J3_removeLast {l : Launch} {E : zE} {D : va_G} {tA : Nat → ClassId} (hl : l.stackTraces = false) (a0 : Option Nat) : zMet l E D tA yJ3_removeLast (ws_ yJ3_removeLast cJ3_removeLast 2 (Option.some (Jvm.ClassFile.FieldType.object "java/lang/Object"))) 11 (s_J3_removeLast E a0) [zP a0] := by
  refine z_met hl (by decide +kernel) (by rw [zSl_len]; exact (Nat.le_of_ble_eq_true rfl)) fun p e R s m args below meth c k0 x hret hnm htab => ?_
  refine z_lv [(0, zP a0)] rfl ?_
  unfold s_J3_removeLast
  refine z_aload_n (pc := 0) x 0 dJ3_removeLast_0 rfl rfl ?_
  refine z_call (pc := 1) (z_canV (pc := 1) (As := []) (st := []) x (ci := 13) rfl (fun b => m_J3_pollLast hl (some b)) q2754 q2755 (x.2.2.2.2.1 _ q2756) q116 q2757 n_J3_pollLast ⟨by decide, by decide⟩ (Nat.le_of_ble_eq_true rfl) dJ3_removeLast_1) (zv_R fun v1 => ?_) (fun q => zx_thr x (fun z hz => (htab z hz).elim) q)
  refine z_astore_n (pc := 4) (lv' := [(1, zP v1), (0, zP a0)]) x dJ3_removeLast_4 rfl (Nat.le_of_ble_eq_true rfl) rfl ?_
  refine z_aload_n (pc := 5) x 0 dJ3_removeLast_5 rfl rfl ?_
  refine z_ifnonnull (pc := 6) (tgt := 17) x dJ3_removeLast_6 rfl (fun _ => ?_) (fun _ => ?_)
  · refine z_exc (pc := 9) x ["java/lang/RuntimeException", "java/lang/Exception"] (by decide) (by decide +kernel) (by decide +kernel) q1611 q137 (zx_at0 x zxa_NoSuchElementException q1612) (List.all_eq_true.mp (by decide +kernel)) (ci := 6) rfl (by show 2 + 3 < _; omega) (zSum (k := 0) rfl (by show _ + (13 * (2 + 1) + 42) ≤ _; omega)) dJ3_removeLast_9 dJ3_removeLast_12 dJ3_removeLast_13 fun v9 => ?_
    exact z_athrow (pc := 16) x dJ3_removeLast_16 (fun q => zx_thr x (fun z hz => (htab z hz).elim) q)
  · refine z_aload_n (pc := 17) x 0 dJ3_removeLast_17 rfl rfl ?_
    exact z_aret (pc := 18) x hret (Or.inl ⟨_, rfl⟩) dJ3_removeLast_18
/-! X1_undo -/
def s_X1_undo_17 (E : zE) (a0 : Option Nat) (b0 : Int32) : zM := zC (s_X1_requireState E b0) zThr (zKV (zGetR a0 16 3 (fun v22 => zC (zRv v22 [(13, fun b => s_J3_removeLast E (some b))]) zThr (zKR (fun v25 => zCsS 26 v25 (zSet E a0 16 0 (zVal (zP v25)) (zGetR a0 16 3 (fun v37 => zC (zRv v37 [(13, fun b => s_J3_size E (some b))]) zThr (zKI (fun v40 => zRet (some (.int v40))))))))))))
theorem w_X1_undo_17 (x : zCx p l R s m args meth c E D tA cX1_undo 1 yX1_undo.cls 12) (hl : l.stackTraces = false) (hret : meth.sig.returnType = (Option.some Jvm.ClassFile.FieldType.int)) (hnm : meth.name = yX1_undo.name) (htab : ∀ z ∈ c.exceptionTable.toList, False) (a0 : Option Nat) (b0 : Int32) : zW p l e R s m args below meth c E D tA 1 k0 (s_X1_undo_17 E a0 b0) [(0, zP a0)] 17 [zI b0] := by
  unfold s_X1_undo_17
  refine z_call (pc := 17) (z_canS (pc := 17) (As := [zI b0]) (st := []) x (m_X1_requireState hl b0) q2148 q1553 q108 q1554 n_X1_requireState ⟨by decide, by decide⟩ (Nat.le_of_ble_eq_true rfl) dX1_undo_17) (zv_V ?_) (fun q => zx_thr x (fun z hz => (htab z hz).elim) q)
  refine z_aload_n (pc := 20) x 0 dX1_undo_20 rfl rfl ?_
  refine z_aload_n (pc := 21) x 0 dX1_undo_21 rfl rfl ?_
  refine z_get (pc := 22) (fun _ _ h => zAsR_eq h) x in_X1 (ci := 16) rfl (k := 3) (by decide) q323 (fun _ h => h) dX1_undo_22 fun v22 => ?_
  refine z_call (pc := 25) (z_canIF (pc := 25) (As := []) (st := [zP a0]) (x9 := ⟨"java/util/Deque", "removeLast", "()Ljava/lang/Object;"⟩) x (ci := 13) rfl (fun b => m_J3_removeLast hl (some b)) q2746 q2748 q2747 (by decide) q2749 q2751 q2752 q2750 q1583 q116 q2753 nx_java_util_Deque_removeLast___Ljava_lang_Object_ ⟨by decide, by decide⟩ (Nat.le_of_ble_eq_true rfl) dX1_undo_25) (zv_R fun v25 => ?_) (fun q => zx_thr x (fun z hz => (htab z hz).elim) q)
  refine z_csS (pc := 30) x (ci := 26) rfl q175 dX1_undo_30 ?_
  refine z_set (pc := 33) (v := zP v25) x in_X1 tyX1 tyX1_ok nmX1 (ci := 16) rfl (k := 0) (by decide) q320 (fun _ h => h) rfl (zfitR rfl _).1 (zfitR rfl _).2 dX1_undo_33 ?_
  refine z_aload_n (pc := 36) x 0 dX1_undo_36 rfl rfl ?_
  refine z_get (pc := 37) (fun _ _ h => zAsR_eq h) x in_X1 (ci := 16) rfl (k := 3) (by decide) q323 (fun _ h => h) dX1_undo_37 fun v37 => ?_
  refine z_call (pc := 40) (z_canIF (pc := 40) (As := []) (st := []) (x9 := ⟨"java/util/Deque", "size", "()I"⟩) x (ci := 13) rfl (fun b => m_J3_size hl (some b)) q1580 q1582 q1581 (by decide) q1584 q1586 q1587 q1585 q1583 q116 q1588 nx_java_util_Deque_size___I ⟨by decide, by decide⟩ (Nat.le_of_ble_eq_true rfl) dX1_undo_40) (zv_I fun v40 => ?_) (fun q => zx_thr x (fun z hz => (htab z hz).elim) q)
  exact z_iret (pc := 45) x hret dX1_undo_45
def s_X1_undo (E : zE) (a0 : Option Nat) : zM := zGetR a0 16 3 (fun v1 => zC (zRv v1 [(13, fun b => s_J3_isEmpty E (some b))]) zThr (zKI (fun v4 => if v4 = 0 then (s_X1_undo_17 E a0 (1 : Int32)) else (s_X1_undo_17 E a0 (0 : Int32)))))
theorem m_X1_undo {l : Launch} {E : zE} {D : va_G} {tA : Nat → ClassId} (hl : l.stackTraces = false) (a0 : Option Nat) : zMet l E D tA yX1_undo (ws_ yX1_undo cX1_undo 1 (Option.some Jvm.ClassFile.FieldType.int)) 12 (s_X1_undo E a0) [zP a0] := by
  refine z_met hl (by decide +kernel) (by rw [zSl_len]; exact (Nat.le_of_ble_eq_true rfl)) fun p e R s m args below meth c k0 x hret hnm htab => ?_
  refine z_lv [(0, zP a0)] rfl ?_
  unfold s_X1_undo
  refine z_aload_n (pc := 0) x 0 dX1_undo_0 rfl rfl ?_
  refine z_get (pc := 1) (fun _ _ h => zAsR_eq h) x in_X1 (ci := 16) rfl (k := 3) (by decide) q323 (fun _ h => h) dX1_undo_1 fun v1 => ?_
  refine z_call (pc := 4) (z_canIG (pc := 4) (As := []) (st := []) (x9 := ⟨"java/util/Deque", "isEmpty", "()Z"⟩) (J := "java/util/Collection") x (ci := 13) rfl (fun b => m_J3_isEmpty hl (some b)) (List.mem_of_getElem? (i := 0) rfl) q2018 q2017 (List.mem_of_getElem? (i := 3) rfl) (by decide) (by decide) (by decide) q2019 q2021 q2022 q2020 q1583 q116 q2023 nx_java_util_Deque_isEmpty___Z ⟨by decide, by decide⟩ (Nat.le_of_ble_eq_true rfl) dX1_undo_4) (zv_I fun v4 => ?_) (fun q => zx_thr x (fun z hz => (htab z hz).elim) q)
  refine z_if_ne (pc := 9) (tgt := 16) x dX1_undo_9 rfl (fun _ => ?_) (fun _ => ?_)
  · refine z_iconst (pc := 12) x (v := (1 : Int32)) dX1_undo_12 rfl ?_
    refine z_goto (pc := 13) (tgt := 17) x dX1_undo_13 rfl ?_
    exact z_sub [0] rfl (w_X1_undo_17 x hl hret hnm htab a0 (1 : Int32))
  · refine z_iconst (pc := 16) x (v := (0 : Int32)) dX1_undo_16 rfl ?_
    exact z_sub [0] rfl (w_X1_undo_17 x hl hret hnm htab a0 (0 : Int32))
/-! X0_undo -/
def s_X0_undo_11 (E : zE) (b0 : Option Nat) : zM := zRet (some (.int (1 : Int32)))
theorem w_X0_undo_11 (x : zCx p l R s m args meth c E D tA cX0_undo 3 yX0_undo.cls 13) (hl : l.stackTraces = false) (hret : meth.sig.returnType = (Option.some Jvm.ClassFile.FieldType.int)) (hnm : meth.name = yX0_undo.name) (htab : c.exceptionTable.toList = tableOf [(0, 8, 11, 17)]) (b0 : Option Nat) : zW p l e R s m args below meth c E D tA 3 k0 (s_X0_undo_11 E b0) [] 11 [zP b0] := by
  unfold s_X0_undo_11
  refine z_astore_n (pc := 11) (lv' := [(2, zP b0)]) x dX0_undo_11 rfl (Nat.le_of_ble_eq_true rfl) rfl ?_
  refine z_iconst (pc := 12) x (v := (1 : Int32)) dX0_undo_12 rfl ?_
  exact z_iret (pc := 13) x hret dX0_undo_13
def s_X0_undo (E : zE) (a0 : Option Nat) (a1 : Option Nat) : zM := zC (zRv a0 [(16, fun b => s_X1_undo E (some b))]) (fun q => zCat1 q [(5, s_X0_undo_11 E (some q))]) (zKI (fun v3 => zSaL E 3 a1 (0 : Int32) ((v3).toInt64) (zRet (some (.int (0 : Int32))))))
theorem m_X0_undo {l : Launch} {E : zE} {D : va_G} {tA : Nat → ClassId} (hl : l.stackTraces = false) (a0 : Option Nat) (a1 : Option Nat) : zMet l E D tA yX0_undo (wsW_ yX0_undo cX0_undo 3 (Option.some Jvm.ClassFile.FieldType.int) [(0, 8, 11, 17)]) 13 (s_X0_undo E a0 a1) [zP a0, zP a1] := by
  refine z_metW hl (by decide +kernel) (by rw [zSl_len]; exact (Nat.le_of_ble_eq_true rfl)) fun p e R s m args below meth c k0 x hret hnm htab => ?_
  refine z_lv [(0, zP a0), (1, zP a1)] rfl ?_
  unfold s_X0_undo
  refine z_aload_n (pc := 0) x 1 dX0_undo_0 rfl rfl ?_
  refine z_iconst (pc := 1) x (v := (0 : Int32)) dX0_undo_1 rfl ?_
  refine z_aload_n (pc := 2) x 0 dX0_undo_2 rfl rfl ?_
  refine z_call (pc := 3) (z_canV (pc := 3) (As := []) (st := [zI (0 : Int32), zP a1]) x (ci := 16) rfl (fun b => m_X1_undo hl (some b)) q2740 q2741 (x.2.2.2.2.1 _ q2742) q108 q2743 n_X1_undo ⟨by decide, by decide⟩ (Nat.le_of_ble_eq_true rfl) dX0_undo_3) (zv_I fun v3 => ?_) (fun q => zx_cat x [(5, s_X0_undo_11 E (some q), ⟨0, 8, 11, 17⟩)] htab (List.forall_mem_cons.mpr ⟨⟨rfl, (show (17 : Nat) ≠ 0 by decide), q1464, z_sub [] rfl (w_X0_undo_11 x hl hret hnm htab (some q))⟩, (fun _ hj => nomatch hj)⟩))
  refine z_i2l (pc := 6) x dX0_undo_6 ?_
  refine z_last (pc := 7) x (t := 3) rfl dX0_undo_7 ?_
  refine z_goto (pc := 8) (tgt := 14) x dX0_undo_8 rfl ?_
  refine z_iconst (pc := 14) x (v := (0 : Int32)) dX0_undo_14 rfl ?_
  exact z_iret (pc := 15) x hret dX0_undo_15
/-! J3_circularClear -/
def s_J3_circularClear_12 (E : zE) : Nat → Option Nat → Int32 → Int32 → Int32 → zM
  | 0, _, _, _, _ => zFail
  | n + 1, a0, a1, a2, a3 => if a3 ≤ a1 then (if a3 = a2 then (zRet none) else ((s_J3_circularClear_12 E n) a0 (0 : Int32) a2 a2)) else (zSaR E 5 1 a0 a1 none ((s_J3_circularClear_12 E n) a0 (a1 + (1 : Int32)) a2 a3))
theorem w_J3_circularClear_12 (x : zCx p l R s m args meth c E D tA cJ3_circularClear 4 yJ3_circularClear.cls 9) (hl : l.stackTraces = false) (hret : meth.sig.returnType = (Option.none : Option Jvm.ClassFile.FieldType)) (hnm : meth.name = yJ3_circularClear.name) (htab : ∀ z ∈ c.exceptionTable.toList, False) : ∀ (n : Nat) (a0 : Option Nat) (a1 : Int32) (a2 : Int32) (a3 : Int32), zW p l e R s m args below meth c E D tA 4 k0 (s_J3_circularClear_12 E n a0 a1 a2 a3) [(0, zP a0), (1, zI a1), (2, zI a2), (3, zI a3)] 12 [] := by
  intro n
  induction n with
  | zero => intro a0 a1 a2 a3; exact z_fail
  | succ n h12 =>
    intro a0 a1 a2 a3
    rw [s_J3_circularClear_12]
    refine z_iload_n (pc := 12) x 1 dJ3_circularClear_12 rfl rfl ?_
    refine z_iload_n (pc := 13) x 3 dJ3_circularClear_13 rfl rfl ?_
    refine z_icmp_ge (pc := 14) (tgt := 27) x dJ3_circularClear_14 rfl (fun _ => ?_) (fun _ => ?_)
    · refine z_iload_n (pc := 27) x 3 dJ3_circularClear_27 rfl rfl ?_
      refine z_iload_n (pc := 28) x 2 dJ3_circularClear_28 rfl rfl ?_
      refine z_icmp_ne (pc := 29) (tgt := 35) x dJ3_circularClear_29 rfl (fun _ => ?_) (fun _ => ?_)
      · refine z_goto (pc := 32) (tgt := 42) x dJ3_circularClear_32 rfl ?_
        exact z_vret (pc := 42) x hret dJ3_circularClear_42
      · refine z_iconst (pc := 35) x (v := (0 : Int32)) dJ3_circularClear_35 rfl ?_
        refine z_istore_n (pc := 36) (lv' := [(1, zI (0 : Int32)), (0, zP a0), (2, zI a2), (3, zI a3)]) x dJ3_circularClear_36 rfl (Nat.le_of_ble_eq_true rfl) rfl ?_
        refine z_iload_n (pc := 37) x 2 dJ3_circularClear_37 rfl rfl ?_
        refine z_istore_n (pc := 38) (lv' := [(3, zI a2), (1, zI (0 : Int32)), (0, zP a0), (2, zI a2)]) x dJ3_circularClear_38 rfl (Nat.le_of_ble_eq_true rfl) rfl ?_
        refine z_goto (pc := 39) (tgt := 12) x dJ3_circularClear_39 rfl ?_
        exact z_sub [2, 1, 3, 0] rfl (h12 a0 (0 : Int32) a2 a2)
    · refine z_aload_n (pc := 17) x 0 dJ3_circularClear_17 rfl rfl ?_
      refine z_iload_n (pc := 18) x 1 dJ3_circularClear_18 rfl rfl ?_
      refine z_null (pc := 19) x dJ3_circularClear_19 ?_
      refine z_aast (pc := 20) x (t := 5) (tg := 1) rfl rfl dJ3_circularClear_20 ?_
      refine z_iinc (pc := 21) (lv' := [(1, zI (a1 + (1 : Int32))), (0, zP a0), (2, zI a2), (3, zI a3)]) x (v2 := (a1 + (1 : Int32))) 1 dJ3_circularClear_21 rfl rfl (Nat.le_of_ble_eq_true rfl) rfl ?_
      refine z_goto (pc := 24) (tgt := 12) x dJ3_circularClear_24 rfl ?_
      exact z_sub [1, 0, 2, 3] rfl (h12 a0 (a1 + (1 : Int32)) a2 a3)
def s_J3_circularClear_11 (E : zE) (a0 : Option Nat) (a1 : Int32) (a2 : Int32) (b0 : Int32) : zM := s_J3_circularClear_12 E zN a0 a1 a2 b0
theorem w_J3_circularClear_11 (x : zCx p l R s m args meth c E D tA cJ3_circularClear 4 yJ3_circularClear.cls 9) (hl : l.stackTraces = false) (hret : meth.sig.returnType = (Option.none : Option Jvm.ClassFile.FieldType)) (hnm : meth.name = yJ3_circularClear.name) (htab : ∀ z ∈ c.exceptionTable.toList, False) (a0 : Option Nat) (a1 : Int32) (a2 : Int32) (b0 : Int32) : zW p l e R s m args below meth c E D tA 4 k0 (s_J3_circularClear_11 E a0 a1 a2 b0) [(0, zP a0), (1, zI a1), (2, zI a2)] 11 [zI b0] := by
  unfold s_J3_circularClear_11
  refine z_istore_n (pc := 11) (lv' := [(3, zI b0), (0, zP a0), (1, zI a1), (2, zI a2)]) x dJ3_circularClear_11 rfl (Nat.le_of_ble_eq_true rfl) rfl ?_
  exact z_sub [1, 2, 3, 0] rfl (w_J3_circularClear_12 x hl hret hnm htab zN a0 a1 a2 b0)
def s_J3_circularClear (E : zE) (a0 : Option Nat) (a1 : Int32) (a2 : Int32) : zM := if a2 < a1 then (zLen a0 (fun v10 => s_J3_circularClear_11 E a0 a1 a2 v10)) else (s_J3_circularClear_11 E a0 a1 a2 a2)
theorem m_J3_circularClear {l : Launch} {E : zE} {D : va_G} {tA : Nat → ClassId} (hl : l.stackTraces = false) (a0 : Option Nat) (a1 : Int32) (a2 : Int32) : zMet l E D tA yJ3_circularClear (ws_ yJ3_circularClear cJ3_circularClear 4 (Option.none : Option Jvm.ClassFile.FieldType)) 9 (s_J3_circularClear E a0 a1 a2) [zP a0, zI a1, zI a2] := by
  refine z_met hl (by decide +kernel) (by rw [zSl_len]; exact (Nat.le_of_ble_eq_true rfl)) fun p e R s m args below meth c k0 x hret hnm htab => ?_
  refine z_lv [(0, zP a0), (1, zI a1), (2, zI a2)] rfl ?_
  unfold s_J3_circularClear
  refine z_iload_n (pc := 0) x 1 dJ3_circularClear_0 rfl rfl ?_
  refine z_iload_n (pc := 1) x 2 dJ3_circularClear_1 rfl rfl ?_
  refine z_icmp_gt (pc := 2) (tgt := 9) x dJ3_circularClear_2 rfl (fun _ => ?_) (fun _ => ?_)
  · refine z_aload_n (pc := 9) x 0 dJ3_circularClear_9 rfl rfl ?_
    refine z_len (pc := 10) x dJ3_circularClear_10 fun v10 => ?_
    exact z_sub [0, 1, 2] rfl (w_J3_circularClear_11 x hl hret hnm htab a0 a1 a2 v10)
  · refine z_iload_n (pc := 5) x 2 dJ3_circularClear_5 rfl rfl ?_
    refine z_goto (pc := 6) (tgt := 11) x dJ3_circularClear_6 rfl ?_
    exact z_sub [0, 1, 2] rfl (w_J3_circularClear_11 x hl hret hnm htab a0 a1 a2 a2)
/-! J3_clear -/
def s_J3_clear (E : zE) (a0 : Option Nat) : zM := zGetR a0 13 0 (fun v1 => zGetI a0 13 1 (fun v5 => zGetI a0 13 2 (fun v9 => zC (s_J3_circularClear E v1 v5 v9) zThr (zKV (zSet E a0 13 2 (zVal (zI (0 : Int32))) (zSet E a0 13 1 (zVal (zI (0 : Int32))) (zRet none)))))))
theorem m_J3_clear {l : Launch} {E : zE} {D : va_G} {tA : Nat → ClassId} (hl : l.stackTraces = false) (a0 : Option Nat) : zMet l E D tA yJ3_clear (ws_ yJ3_clear cJ3_clear 1 (Option.none : Option Jvm.ClassFile.FieldType)) 10 (s_J3_clear E a0) [zP a0] := by
  refine z_met hl (by decide +kernel) (by rw [zSl_len]; exact (Nat.le_of_ble_eq_true rfl)) fun p e R s m args below meth c k0 x hret hnm htab => ?_
  refine z_lv [(0, zP a0)] rfl ?_
  unfold s_J3_clear
  refine z_aload_n (pc := 0) x 0 dJ3_clear_0 rfl rfl ?_
  refine z_get (pc := 1) (fun _ _ h => zAsR_eq h) x in_J3 (ci := 13) rfl (k := 0) (by decide) q276 (fun _ h => h) dJ3_clear_1 fun v1 => ?_
  refine z_aload_n (pc := 4) x 0 dJ3_clear_4 rfl rfl ?_
  refine z_get (pc := 5) (fun _ _ h => zAsI_eq h) x in_J3 (ci := 13) rfl (k := 1) (by decide) q277 (fun _ h => h) dJ3_clear_5 fun v5 => ?_
  refine z_aload_n (pc := 8) x 0 dJ3_clear_8 rfl rfl ?_
  refine z_get (pc := 9) (fun _ _ h => zAsI_eq h) x in_J3 (ci := 13) rfl (k := 2) (by decide) q278 (fun _ h => h) dJ3_clear_9 fun v9 => ?_
  refine z_call (pc := 12) (z_canS (pc := 12) (As := [zP v1, zI v5, zI v9]) (st := []) x (m_J3_circularClear hl v1 v5 v9) q2776 q2777 q116 q2778 n_J3_circularClear ⟨by decide, by decide⟩ (Nat.le_of_ble_eq_true rfl) dJ3_clear_12) (zv_V ?_) (fun q => zx_thr x (fun z hz => (htab z hz).elim) q)
  refine z_aload_n (pc := 15) x 0 dJ3_clear_15 rfl rfl ?_
  refine z_aload_n (pc := 16) x 0 dJ3_clear_16 rfl rfl ?_
  refine z_iconst (pc := 17) x (v := (0 : Int32)) dJ3_clear_17 rfl ?_
  refine z_dup_x1 (pc := 18) x dJ3_clear_18 rfl rfl ?_
  refine z_set (pc := 19) (v := zI (0 : Int32)) x in_J3 tyJ3 tyJ3_ok nmJ3 (ci := 13) rfl (k := 2) (by decide) q278 (fun _ h => h) rfl rfl rfl dJ3_clear_19 ?_
  refine z_set (pc := 22) (v := zI (0 : Int32)) x in_J3 tyJ3 tyJ3_ok nmJ3 (ci := 13) rfl (k := 1) (by decide) q277 (fun _ h => h) rfl rfl rfl dJ3_clear_22 ?_
  exact z_vret (pc := 25) x hret dJ3_clear_25
/-! X1_restore -/
def s_X1_restore_12 (E : zE) (a0 : Option Nat) (b0 : Int32) : zM := zC (s_X1_requireState E b0) zThr (zKV (zGetR a0 16 1 (fun v17 => zSet E a0 16 0 (zVal (zP v17)) (zGetR a0 16 3 (fun v24 => zC (zRv v24 [(13, fun b => s_J3_clear E (some b))]) zThr (zKV (zRet none)))))))
theorem w_X1_restore_12 (x : zCx p l R s m args meth c E D tA cX1_restore 1 yX1_restore.cls 11) (hl : l.stackTraces = false) (hret : meth.sig.returnType = (Option.none : Option Jvm.ClassFile.FieldType)) (hnm : meth.name = yX1_restore.name) (htab : ∀ z ∈ c.exceptionTable.toList, False) (a0 : Option Nat) (b0 : Int32) : zW p l e R s m args below meth c E D tA 1 k0 (s_X1_restore_12 E a0 b0) [(0, zP a0)] 12 [zI b0] := by
  unfold s_X1_restore_12
  refine z_call (pc := 12) (z_canS (pc := 12) (As := [zI b0]) (st := []) x (m_X1_requireState hl b0) q2148 q1553 q108 q1554 n_X1_requireState ⟨by decide, by decide⟩ (Nat.le_of_ble_eq_true rfl) dX1_restore_12) (zv_V ?_) (fun q => zx_thr x (fun z hz => (htab z hz).elim) q)
  refine z_aload_n (pc := 15) x 0 dX1_restore_15 rfl rfl ?_
  refine z_aload_n (pc := 16) x 0 dX1_restore_16 rfl rfl ?_
  refine z_get (pc := 17) (fun _ _ h => zAsR_eq h) x in_X1 (ci := 16) rfl (k := 1) (by decide) q321 (fun _ h => h) dX1_restore_17 fun v17 => ?_
  refine z_set (pc := 20) (v := zP v17) x in_X1 tyX1 tyX1_ok nmX1 (ci := 16) rfl (k := 0) (by decide) q320 (fun _ h => h) rfl (zfitR rfl _).1 (zfitR rfl _).2 dX1_restore_20 ?_
  refine z_aload_n (pc := 23) x 0 dX1_restore_23 rfl rfl ?_
  refine z_get (pc := 24) (fun _ _ h => zAsR_eq h) x in_X1 (ci := 16) rfl (k := 3) (by decide) q323 (fun _ h => h) dX1_restore_24 fun v24 => ?_
  refine z_call (pc := 27) (z_canIG (pc := 27) (As := []) (st := []) (x9 := ⟨"java/util/Deque", "clear", "()V"⟩) (J := "java/util/Collection") x (ci := 13) rfl (fun b => m_J3_clear hl (some b)) (List.mem_of_getElem? (i := 1) rfl) q2770 q2769 (List.mem_of_getElem? (i := 4) rfl) (by decide) (by decide) (by decide) q2771 q2773 q2774 q2772 q1583 q116 q2775 nx_java_util_Deque_clear___V ⟨by decide, by decide⟩ (Nat.le_of_ble_eq_true rfl) dX1_restore_27) (zv_V ?_) (fun q => zx_thr x (fun z hz => (htab z hz).elim) q)
  exact z_vret (pc := 32) x hret dX1_restore_32
def s_X1_restore (E : zE) (a0 : Option Nat) : zM := zGetR a0 16 1 (fun v1 => if v1 = none then (s_X1_restore_12 E a0 (0 : Int32)) else (s_X1_restore_12 E a0 (1 : Int32)))
theorem m_X1_restore {l : Launch} {E : zE} {D : va_G} {tA : Nat → ClassId} (hl : l.stackTraces = false) (a0 : Option Nat) : zMet l E D tA yX1_restore (ws_ yX1_restore cX1_restore 1 (Option.none : Option Jvm.ClassFile.FieldType)) 11 (s_X1_restore E a0) [zP a0] := by
  refine z_met hl (by decide +kernel) (by rw [zSl_len]; exact (Nat.le_of_ble_eq_true rfl)) fun p e R s m args below meth c k0 x hret hnm htab => ?_
  refine z_lv [(0, zP a0)] rfl ?_
  unfold s_X1_restore
  refine z_aload_n (pc := 0) x 0 dX1_restore_0 rfl rfl ?_
  refine z_get (pc := 1) (fun _ _ h => zAsR_eq h) x in_X1 (ci := 16) rfl (k := 1) (by decide) q321 (fun _ h => h) dX1_restore_1 fun v1 => ?_
  refine z_ifnull (pc := 4) (tgt := 11) x dX1_restore_4 rfl (fun _ => ?_) (fun _ => ?_)
  · refine z_iconst (pc := 11) x (v := (0 : Int32)) dX1_restore_11 rfl ?_
    exact z_sub [0] rfl (w_X1_restore_12 x hl hret hnm htab a0 (0 : Int32))
  · refine z_iconst (pc := 7) x (v := (1 : Int32)) dX1_restore_7 rfl ?_
    refine z_goto (pc := 8) (tgt := 12) x dX1_restore_8 rfl ?_
    exact z_sub [0] rfl (w_X1_restore_12 x hl hret hnm htab a0 (1 : Int32))
/-! X0_restore -/
def s_X0_restore_7 (E : zE) (b0 : Option Nat) : zM := zRet (some (.int (1 : Int32)))
theorem w_X0_restore_7 (x : zCx p l R s m args meth c E D tA cX0_restore 2 yX0_restore.cls 12) (hl : l.stackTraces = false) (hret : meth.sig.returnType = (Option.some Jvm.ClassFile.FieldType.int)) (hnm : meth.name = yX0_restore.name) (htab : c.exceptionTable.toList = tableOf [(0, 4, 7, 17)]) (b0 : Option Nat) : zW p l e R s m args below meth c E D tA 2 k0 (s_X0_restore_7 E b0) [] 7 [zP b0] := by
  unfold s_X0_restore_7
  refine z_astore_n (pc := 7) (lv' := [(1, zP b0)]) x dX0_restore_7 rfl (Nat.le_of_ble_eq_true rfl) rfl ?_
  refine z_iconst (pc := 8) x (v := (1 : Int32)) dX0_restore_8 rfl ?_
  exact z_iret (pc := 9) x hret dX0_restore_9
def s_X0_restore (E : zE) (a0 : Option Nat) : zM := zC (zRv a0 [(16, fun b => s_X1_restore E (some b))]) (fun q => zCat1 q [(5, s_X0_restore_7 E (some q))]) (zKV (zRet (some (.int (0 : Int32)))))
theorem m_X0_restore {l : Launch} {E : zE} {D : va_G} {tA : Nat → ClassId} (hl : l.stackTraces = false) (a0 : Option Nat) : zMet l E D tA yX0_restore (wsW_ yX0_restore cX0_restore 2 (Option.some Jvm.ClassFile.FieldType.int) [(0, 4, 7, 17)]) 12 (s_X0_restore E a0) [zP a0] := by
  refine z_metW hl (by decide +kernel) (by rw [zSl_len]; exact (Nat.le_of_ble_eq_true rfl)) fun p e R s m args below meth c k0 x hret hnm htab => ?_
  refine z_lv [(0, zP a0)] rfl ?_
  unfold s_X0_restore
  refine z_aload_n (pc := 0) x 0 dX0_restore_0 rfl rfl ?_
  refine z_call (pc := 1) (z_canV (pc := 1) (As := []) (st := []) x (ci := 16) rfl (fun b => m_X1_restore hl (some b)) q2764 q2765 (x.2.2.2.2.1 _ q2766) q108 q2767 n_X1_restore ⟨by decide, by decide⟩ (Nat.le_of_ble_eq_true rfl) dX0_restore_1) (zv_V ?_) (fun q => zx_cat x [(5, s_X0_restore_7 E (some q), ⟨0, 4, 7, 17⟩)] htab (List.forall_mem_cons.mpr ⟨⟨rfl, (show (17 : Nat) ≠ 0 by decide), q1464, z_sub [] rfl (w_X0_restore_7 x hl hret hnm htab (some q))⟩, (fun _ hj => nomatch hj)⟩))
  refine z_goto (pc := 4) (tgt := 10) x dX0_restore_4 rfl ?_
  refine z_iconst (pc := 10) x (v := (0 : Int32)) dX0_restore_10 rfl ?_
  exact z_iret (pc := 11) x hret dX0_restore_11
/-! X2_init -/
def s_X2_init (E : zE) (a0 : Option Nat) : zM := zSp a0 (fun _ => zNew 10 3 [.int 0, .null, .int 0] (fun v5 => zC (zSp v5 (fun b => s_J2_init E (some b))) zThr (zKV (zSet E a0 26 1 (zVal (zP v5)) (zNew 0 2 [.int 0, .int 0] (fun v16 => zC (zSp v16 (fun b => s_X3_init E (some b))) zThr (zKV (zSet E a0 26 2 (zVal (zP v16)) (zNew 32 1 [.null] (fun v27 => zC (zSp v27 (fun b => s_X4_init E (some b))) zThr (zKV (zSet E a0 26 0 (zVal (zP v27)) (zRet none)))))))))))))
theorem m_X2_init {l : Launch} {E : zE} {D : va_G} {tA : Nat → ClassId} (hl : l.stackTraces = false) (a0 : Option Nat) : zMet l E D tA yX2_init (ws_ yX2_init cX2_init 1 (Option.none : Option Jvm.ClassFile.FieldType)) 12 (s_X2_init E a0) [zP a0] := by
  refine z_met hl (by decide +kernel) (by rw [zSl_len]; exact (Nat.le_of_ble_eq_true rfl)) fun p e R s m args below meth c k0 x hret hnm htab => ?_
  refine z_lv [(0, zP a0)] rfl ?_
  unfold s_X2_init
  refine z_aload_n (pc := 0) x 0 dX2_init_0 rfl rfl ?_
  refine z_objInit (pc := 1) x q180 q173 q174 (by omega) (zSum (k := 0) rfl (by omega)) dX2_init_1 ?_
  refine z_aload_n (pc := 4) x 0 dX2_init_4 rfl rfl ?_
  refine z_new (pc := 5) x in_J2 tyJ2 tyJ2_ok q181 q182 q112 (ci := 10) rfl (by decide) (by decide +kernel) dX2_init_5 fun v5 => ?_
  refine z_dup (pc := 8) x dX2_init_8 rfl ?_
  refine z_call (pc := 9) (z_canI (pc := 9) (ret := none) (As := []) (st := [zP v5, zP a0]) x (fun b => m_J2_init hl (some b)) q183 rfl q184 q112 q185 n_J2_init ⟨by decide, by decide⟩ (Nat.le_of_ble_eq_true rfl) dX2_init_9) (zv_V ?_) (fun q => zx_thr x (fun z hz => (htab z hz).elim) q)
  refine z_setF (pc := 12) (v := zP v5) x in_X2 tyX2 tyX2_ok nmX2 (ci := 26) rfl (k := 1) (by decide) q252 (fun _ h => h) rfl hnm rfl (zfitR rfl _).1 (zfitR rfl _).2 dX2_init_12 ?_
  refine z_aload_n (pc := 15) x 0 dX2_init_15 rfl rfl ?_
  refine z_new (pc := 16) x in_X3 tyX3 tyX3_ok q210 q211 q113 (ci := 0) rfl (by decide) (by decide +kernel) dX2_init_16 fun v16 => ?_
  refine z_dup (pc := 19) x dX2_init_19 rfl ?_
  refine z_call (pc := 20) (z_canIN (pc := 20) (ret := none) (As := []) (st := [zP v16, zP a0]) x (fun b => m_X3_init hl (some b)) q212 rfl q213 q113 q214 n_X3_init ⟨by decide, by decide⟩ (Nat.le_of_ble_eq_true rfl) dX2_init_20) (zv_V ?_) (fun q => zx_thr x (fun z hz => (htab z hz).elim) q)
  refine z_setF (pc := 23) (v := zP v16) x in_X2 tyX2 tyX2_ok nmX2 (ci := 26) rfl (k := 2) (by decide) q256 (fun _ h => h) rfl hnm rfl (zfitR rfl _).1 (zfitR rfl _).2 dX2_init_23 ?_
  refine z_aload_n (pc := 26) x 0 dX2_init_26 rfl rfl ?_
  refine z_new (pc := 27) x in_X4 tyX4 tyX4_ok q223 q224 q114 (ci := 32) rfl (by decide) (by decide +kernel) dX2_init_27 fun v27 => ?_
  refine z_dup (pc := 30) x dX2_init_30 rfl ?_
  refine z_call (pc := 31) (z_canI (pc := 31) (ret := none) (As := []) (st := [zP v27, zP a0]) x (fun b => m_X4_init hl (some b)) q225 rfl q226 q114 q227 n_X4_init ⟨by decide, by decide⟩ (Nat.le_of_ble_eq_true rfl) dX2_init_31) (zv_V ?_) (fun q => zx_thr x (fun z hz => (htab z hz).elim) q)
  refine z_setF (pc := 34) (v := zP v27) x in_X2 tyX2 tyX2_ok nmX2 (ci := 26) rfl (k := 0) (by decide) q248 (fun _ h => h) rfl hnm rfl (zfitR rfl _).1 (zfitR rfl _).2 dX2_init_34 ?_
  exact z_vret (pc := 37) x hret dX2_init_37
/-! X1_init -/
def s_X1_init (E : zE) (a0 : Option Nat) : zM := zSp a0 (fun _ => zNew 26 4 [.null, .null, .null, .null] (fun v5 => zC (zSp v5 (fun b => s_X2_init E (some b))) zThr (zKV (zSet E a0 16 0 (zVal (zP v5)) (zNew 13 3 [.null, .int 0, .int 0] (fun v16 => zC (zSp v16 (fun b => s_J3_init E (some b))) zThr (zKV (zSet E a0 16 3 (zVal (zP v16)) (zNew 14 4 [.null, .int 0, .int 0, .int 0] (fun v27 => zC (zSp v27 (fun b => s_J5_init E (some b))) zThr (zKV (zSet E a0 16 4 (zVal (zP v27)) (zSet E a0 16 5 (zVal (zP (some (E 27)))) (zSet E a0 16 6 (zVal (zI (-1 : Int32))) (zSet E a0 16 7 (zVal (zI (-1 : Int32))) (zRet none))))))))))))))))
theorem m_X1_init {l : Launch} {E : zE} {D : va_G} {tA : Nat → ClassId} (hl : l.stackTraces = false) (a0 : Option Nat) : zMet l E D tA yX1_init (ws_ yX1_init cX1_init 1 (Option.none : Option Jvm.ClassFile.FieldType)) 13 (s_X1_init E a0) [zP a0] := by
  refine z_met hl (by decide +kernel) (by rw [zSl_len]; exact (Nat.le_of_ble_eq_true rfl)) fun p e R s m args below meth c k0 x hret hnm htab => ?_
  refine z_lv [(0, zP a0)] rfl ?_
  unfold s_X1_init
  refine z_aload_n (pc := 0) x 0 dX1_init_0 rfl rfl ?_
  refine z_objInit (pc := 1) x q172 q173 q174 (by omega) (zSum (k := 0) rfl (by omega)) dX1_init_1 ?_
  refine z_aload_n (pc := 4) x 0 dX1_init_4 rfl rfl ?_
  refine z_new (pc := 5) x in_X2 tyX2 tyX2_ok q175 q176 q109 (ci := 26) rfl (by decide) (by decide +kernel) dX1_init_5 fun v5 => ?_
  refine z_dup (pc := 8) x dX1_init_8 rfl ?_
  refine z_call (pc := 9) (z_canI (pc := 9) (ret := none) (As := []) (st := [zP v5, zP a0]) x (fun b => m_X2_init hl (some b)) q177 rfl q178 q109 q179 n_X2_init ⟨by decide, by decide⟩ (Nat.le_of_ble_eq_true rfl) dX1_init_9) (zv_V ?_) (fun q => zx_thr x (fun z hz => (htab z hz).elim) q)
  refine z_set (pc := 12) (v := zP v5) x in_X1 tyX1 tyX1_ok nmX1 (ci := 16) rfl (k := 0) (by decide) q320 (fun _ h => h) rfl (zfitR rfl _).1 (zfitR rfl _).2 dX1_init_12 ?_
  refine z_aload_n (pc := 15) x 0 dX1_init_15 rfl rfl ?_
  refine z_new (pc := 16) x in_J3 tyJ3 tyJ3_ok q268 q269 q116 (ci := 13) rfl (by decide) (by decide +kernel) dX1_init_16 fun v16 => ?_
  refine z_dup (pc := 19) x dX1_init_19 rfl ?_
  refine z_call (pc := 20) (z_canI (pc := 20) (ret := none) (As := []) (st := [zP v16, zP a0]) x (fun b => m_J3_init hl (some b)) q270 rfl q271 q116 q272 n_J3_init ⟨by decide, by decide⟩ (Nat.le_of_ble_eq_true rfl) dX1_init_20) (zv_V ?_) (fun q => zx_thr x (fun z hz => (htab z hz).elim) q)
  refine z_setF (pc := 23) (v := zP v16) x in_X1 tyX1 tyX1_ok nmX1 (ci := 16) rfl (k := 3) (by decide) q323 (fun _ h => h) rfl hnm rfl (zfitR rfl _).1 (zfitR rfl _).2 dX1_init_23 ?_
  refine z_aload_n (pc := 26) x 0 dX1_init_26 rfl rfl ?_
  refine z_new (pc := 27) x in_J5 tyJ5 tyJ5_ok q286 q287 q118 (ci := 14) rfl (by decide) (by decide +kernel) dX1_init_27 fun v27 => ?_
  refine z_dup (pc := 30) x dX1_init_30 rfl ?_
  refine z_call (pc := 31) (z_canI (pc := 31) (ret := none) (As := []) (st := [zP v27, zP a0]) x (fun b => m_J5_init hl (some b)) q288 rfl q289 q118 q290 n_J5_init ⟨by decide, by decide⟩ (Nat.le_of_ble_eq_true rfl) dX1_init_31) (zv_V ?_) (fun q => zx_thr x (fun z hz => (htab z hz).elim) q)
  refine z_setF (pc := 34) (v := zP v27) x in_X1 tyX1 tyX1_ok nmX1 (ci := 16) rfl (k := 4) (by decide) q325 (fun _ h => h) rfl hnm rfl (zfitR rfl _).1 (zfitR rfl _).2 dX1_init_34 ?_
  refine z_aload_n (pc := 37) x 0 dX1_init_37 rfl rfl ?_
  refine z_ldcS (pc := 38) x (k := 27) (List.mem_of_getElem? (i := 11) rfl) dX1_init_38 ?_
  refine z_set (pc := 40) (v := zP (some (E 27))) x in_X1 tyX1 tyX1_ok nmX1 (ci := 16) rfl (k := 5) (by decide) q326 (fun _ h => h) rfl (zfitR rfl _).1 (zfitR rfl _).2 dX1_init_40 ?_
  refine z_aload_n (pc := 43) x 0 dX1_init_43 rfl rfl ?_
  refine z_iconst (pc := 44) x (v := (-1 : Int32)) dX1_init_44 rfl ?_
  refine z_set (pc := 45) (v := zI (-1 : Int32)) x in_X1 tyX1 tyX1_ok nmX1 (ci := 16) rfl (k := 6) (by decide) q327 (fun _ h => h) rfl rfl rfl dX1_init_45 ?_
  refine z_aload_n (pc := 48) x 0 dX1_init_48 rfl rfl ?_
  refine z_iconst (pc := 49) x (v := (-1 : Int32)) dX1_init_49 rfl ?_
  refine z_set (pc := 50) (v := zI (-1 : Int32)) x in_X1 tyX1 tyX1_ok nmX1 (ci := 16) rfl (k := 7) (by decide) q328 (fun _ h => h) rfl rfl rfl dX1_init_50 ?_
  exact z_vret (pc := 53) x hret dX1_init_53
/-! X1_givenCount -/
def s_X1_givenCount (E : zE) (a0 : Option Nat) : zM := zGetR a0 16 0 (fun v1 => zGetR v1 26 0 (fun v4 => zC (zRv v4 [(32, fun b => s_X4_count E (some b))]) zThr (zKI (fun v7 => zRet (some (.int v7))))))
theorem m_X1_givenCount {l : Launch} {E : zE} {D : va_G} {tA : Nat → ClassId} (hl : l.stackTraces = false) (a0 : Option Nat) : zMet l E D tA yX1_givenCount (ws_ yX1_givenCount cX1_givenCount 1 (Option.some Jvm.ClassFile.FieldType.int)) 12 (s_X1_givenCount E a0) [zP a0] := by
  refine z_met hl (by decide +kernel) (by rw [zSl_len]; exact (Nat.le_of_ble_eq_true rfl)) fun p e R s m args below meth c k0 x hret hnm htab => ?_
  refine z_lv [(0, zP a0)] rfl ?_
  unfold s_X1_givenCount
  refine z_aload_n (pc := 0) x 0 dX1_givenCount_0 rfl rfl ?_
  refine z_get (pc := 1) (fun _ _ h => zAsR_eq h) x in_X1 (ci := 16) rfl (k := 0) (by decide) q320 (fun _ h => h) dX1_givenCount_1 fun v1 => ?_
  refine z_getN (pc := 4) (fun _ _ h => zAsR_eq h) x in_X2 (ci := 26) rfl (k := 0) (by decide) q251 (fun _ h => h) dX1_givenCount_4 fun v4 => ?_
  refine z_call (pc := 7) (z_canV (pc := 7) (As := []) (st := []) x (ci := 32) rfl (fun b => m_X4_count hl (some b)) q350 q351 (x.2.2.2.2.1 _ q352) q114 q353 n_X4_count ⟨by decide, by decide⟩ (Nat.le_of_ble_eq_true rfl) dX1_givenCount_7) (zv_I fun v7 => ?_) (fun q => zx_thr x (fun z hz => (htab z hz).elim) q)
  exact z_iret (pc := 10) x hret dX1_givenCount_10
/-! X1_allTrue -/
def s_X1_allTrue (E : zE) (a0 : Option Nat) : zM := zGetR a0 16 0 (fun v1 => zC (zRv v1 [(26, fun b => s_X2_facts E (some b))]) zThr (zKR (fun v4 => zC (zRv v4 [(32, fun b => s_X4_count E (some b))]) zThr (zKI (fun v7 => zRet (some (.int v7)))))))
theorem m_X1_allTrue {l : Launch} {E : zE} {D : va_G} {tA : Nat → ClassId} (hl : l.stackTraces = false) (a0 : Option Nat) : zMet l E D tA yX1_allTrue (ws_ yX1_allTrue cX1_allTrue 1 (Option.some Jvm.ClassFile.FieldType.int)) 73 (s_X1_allTrue E a0) [zP a0] := by
  refine z_met hl (by decide +kernel) (by rw [zSl_len]; exact (Nat.le_of_ble_eq_true rfl)) fun p e R s m args below meth c k0 x hret hnm htab => ?_
  refine z_lv [(0, zP a0)] rfl ?_
  unfold s_X1_allTrue
  refine z_aload_n (pc := 0) x 0 dX1_allTrue_0 rfl rfl ?_
  refine z_get (pc := 1) (fun _ _ h => zAsR_eq h) x in_X1 (ci := 16) rfl (k := 0) (by decide) q320 (fun _ h => h) dX1_allTrue_1 fun v1 => ?_
  refine z_call (pc := 4) (z_canV (pc := 4) (As := []) (st := []) x (ci := 26) rfl (fun b => m_X2_facts hl (some b)) q368 q369 (x.2.2.2.2.1 _ q370) q109 q371 n_X2_facts ⟨by decide, by decide⟩ (Nat.le_of_ble_eq_true rfl) dX1_allTrue_4) (zv_R fun v4 => ?_) (fun q => zx_thr x (fun z hz => (htab z hz).elim) q)
  refine z_call (pc := 7) (z_canV (pc := 7) (As := []) (st := []) x (ci := 32) rfl (fun b => m_X4_count hl (some b)) q350 q351 (x.2.2.2.2.1 _ q352) q114 q353 n_X4_count ⟨by decide, by decide⟩ (Nat.le_of_ble_eq_true rfl) dX1_allTrue_7) (zv_I fun v7 => ?_) (fun q => zx_thr x (fun z hz => (htab z hz).elim) q)
  exact z_iret (pc := 10) x hret dX1_allTrue_10
/-! X1_ruleCount -/
def s_X1_ruleCount (E : zE) (a0 : Option Nat) : zM := zGetR a0 16 0 (fun v1 => zGetR v1 26 1 (fun v4 => zC (zRv v4 [(10, fun b => s_J2_size E (some b))]) zThr (zKI (fun v7 => zRet (some (.int v7))))))
theorem m_X1_ruleCount {l : Launch} {E : zE} {D : va_G} {tA : Nat → ClassId} (hl : l.stackTraces = false) (a0 : Option Nat) : zMet l E D tA yX1_ruleCount (ws_ yX1_ruleCount cX1_ruleCount 1 (Option.some Jvm.ClassFile.FieldType.int)) 10 (s_X1_ruleCount E a0) [zP a0] := by
  refine z_met hl (by decide +kernel) (by rw [zSl_len]; exact (Nat.le_of_ble_eq_true rfl)) fun p e R s m args below meth c k0 x hret hnm htab => ?_
  refine z_lv [(0, zP a0)] rfl ?_
  unfold s_X1_ruleCount
  refine z_aload_n (pc := 0) x 0 dX1_ruleCount_0 rfl rfl ?_
  refine z_get (pc := 1) (fun _ _ h => zAsR_eq h) x in_X1 (ci := 16) rfl (k := 0) (by decide) q320 (fun _ h => h) dX1_ruleCount_1 fun v1 => ?_
  refine z_getN (pc := 4) (fun _ _ h => zAsR_eq h) x in_X2 (ci := 26) rfl (k := 1) (by decide) q255 (fun _ h => h) dX1_ruleCount_4 fun v4 => ?_
  refine z_call (pc := 7) (z_canIF (pc := 7) (As := []) (st := []) (x9 := ⟨"java/util/List", "size", "()I"⟩) x (ci := 10) rfl (fun b => m_J2_size hl (some b)) q880 q767 q766 (by decide) q768 q770 q771 q769 q384 q112 q772 nx_java_util_List_size___I ⟨by decide, by decide⟩ (Nat.le_of_ble_eq_true rfl) dX1_ruleCount_7) (zv_I fun v7 => ?_) (fun q => zx_thr x (fun z hz => (htab z hz).elim) q)
  exact z_iret (pc := 12) x hret dX1_ruleCount_12
/-! X1_givenByAccounts -/
def s_X1_givenByAccounts (E : zE) (a0 : Option Nat) : zM := zGetR a0 16 0 (fun v1 => zGetR v1 26 2 (fun v4 => zC (zRv v4 [(0, fun b => s_X3_left E (some b))]) zThr (zKI (fun v7 => zRet (some (.int v7))))))
theorem m_X1_givenByAccounts {l : Launch} {E : zE} {D : va_G} {tA : Nat → ClassId} (hl : l.stackTraces = false) (a0 : Option Nat) : zMet l E D tA yX1_givenByAccounts (ws_ yX1_givenByAccounts cX1_givenByAccounts 1 (Option.some Jvm.ClassFile.FieldType.int)) 10 (s_X1_givenByAccounts E a0) [zP a0] := by
  refine z_met hl (by decide +kernel) (by rw [zSl_len]; exact (Nat.le_of_ble_eq_true rfl)) fun p e R s m args below meth c k0 x hret hnm htab => ?_
  refine z_lv [(0, zP a0)] rfl ?_
  unfold s_X1_givenByAccounts
  refine z_aload_n (pc := 0) x 0 dX1_givenByAccounts_0 rfl rfl ?_
  refine z_get (pc := 1) (fun _ _ h => zAsR_eq h) x in_X1 (ci := 16) rfl (k := 0) (by decide) q320 (fun _ h => h) dX1_givenByAccounts_1 fun v1 => ?_
  refine z_getN (pc := 4) (fun _ _ h => zAsR_eq h) x in_X2 (ci := 26) rfl (k := 2) (by decide) q257 (fun _ h => h) dX1_givenByAccounts_4 fun v4 => ?_
  refine z_call (pc := 7) (z_canVS (pc := 7) (As := []) (st := []) x (ci := 0) rfl (fun b => m_X3_left hl (some b)) q885 q886 (x.2.2.2.2.1 _ q887) q113 q888 n_X3_left ⟨by decide, by decide⟩ (Nat.le_of_ble_eq_true rfl) dX1_givenByAccounts_7) (zv_I fun v7 => ?_) (fun q => zx_thr x (fun z hz => (htab z hz).elim) q)
  exact z_iret (pc := 10) x hret dX1_givenByAccounts_10
/-! X12_isSameAs -/
def s_X12_isSameAs_47 (E : zE) (k4 : Option Nat → Option Nat → Int32 → Int32 → zM) (k13 : Option Nat → Option Nat → Int32 → Int32 → Int32 → zM) (a0 : Option Nat) (a1 : Option Nat) (a3 : Int32) (a4 : Int32) (b0 : Int32) (b1 : Int32) : zM := k13 a0 a1 (b0 &&& b1) a3 (a4 + (1 : Int32))
theorem w_X12_isSameAs_47 (x : zCx p l R s m args meth c E D tA cX12_isSameAs 5 yX12_isSameAs.cls 9) (hl : l.stackTraces = false) (hret : meth.sig.returnType = (Option.some Jvm.ClassFile.FieldType.boolean)) (hnm : meth.name = yX12_isSameAs.name) (htab : ∀ z ∈ c.exceptionTable.toList, False) {k4 : Option Nat → Option Nat → Int32 → Int32 → zM} (h4 : ∀ (a0 : Option Nat) (a1 : Option Nat) (a2 : Int32) (a3 : Int32) , zW p l e R s m args below meth c E D tA 5 k0 (k4 a0 a1 a2 a3) [(0, zP a0), (1, zP a1), (2, zI a2), (3, zI a3)] 4 []) {k13 : Option Nat → Option Nat → Int32 → Int32 → Int32 → zM} (h13 : ∀ (a0 : Option Nat) (a1 : Option Nat) (a2 : Int32) (a3 : Int32) (a4 : Int32) , zW p l e R s m args below meth c E D tA 5 k0 (k13 a0 a1 a2 a3 a4) [(0, zP a0), (1, zP a1), (2, zI a2), (3, zI a3), (4, zI a4)] 13 []) (a0 : Option Nat) (a1 : Option Nat) (a3 : Int32) (a4 : Int32) (b0 : Int32) (b1 : Int32) : zW p l e R s m args below meth c E D tA 5 k0 (s_X12_isSameAs_47 E k4 k13 a0 a1 a3 a4 b0 b1) [(0, zP a0), (1, zP a1), (3, zI a3), (4, zI a4)] 47 [zI b1, zI b0] := by
  unfold s_X12_isSameAs_47
  refine z_iand (pc := 47) x dX12_isSameAs_47 ?_
  refine z_istore_n (pc := 48) (lv' := [(2, zI (b0 &&& b1)), (0, zP a0), (1, zP a1), (3, zI a3), (4, zI a4)]) x dX12_isSameAs_48 rfl (Nat.le_of_ble_eq_true rfl) rfl ?_
  refine z_iinc (pc := 49) (lv' := [(4, zI (a4 + (1 : Int32))), (2, zI (b0 &&& b1)), (0, zP a0), (1, zP a1), (3, zI a3)]) x (v2 := (a4 + (1 : Int32))) 4 dX12_isSameAs_49 rfl rfl (Nat.le_of_ble_eq_true rfl) rfl ?_
  refine z_goto (pc := 52) (tgt := 13) x dX12_isSameAs_52 rfl ?_
  exact z_sub [2, 3, 1, 4, 0] rfl (h13 a0 a1 (b0 &&& b1) a3 (a4 + (1 : Int32)))
def s_X12_isSameAs_13 (E : zE) (k4 : Option Nat → Option Nat → Int32 → Int32 → zM) : Nat → Option Nat → Option Nat → Int32 → Int32 → Int32 → zM
  | 0, _, _, _, _, _ => zFail
  | n + 1, a0, a1, a2, a3, a4 => if (100 : Int32) ≤ a4 then (k4 a0 a1 a2 (a3 + (1 : Int32))) else (zGetR a0 18 1 (fun v22 => zGaR 7 v22 a3 (fun v26 => zGaI 0 v26 a4 (fun v29 => zGetR a1 18 1 (fun v31 => zGaR 7 v31 a3 (fun v35 => zGaI 0 v35 a4 (fun v38 => if v29 = v38 then (s_X12_isSameAs_47 E k4 (s_X12_isSameAs_13 E k4 n) a0 a1 a3 a4 a2 (1 : Int32)) else (s_X12_isSameAs_47 E k4 (s_X12_isSameAs_13 E k4 n) a0 a1 a3 a4 a2 (0 : Int32)))))))))
theorem w_X12_isSameAs_13 (x : zCx p l R s m args meth c E D tA cX12_isSameAs 5 yX12_isSameAs.cls 9) (hl : l.stackTraces = false) (hret : meth.sig.returnType = (Option.some Jvm.ClassFile.FieldType.boolean)) (hnm : meth.name = yX12_isSameAs.name) (htab : ∀ z ∈ c.exceptionTable.toList, False) {k4 : Option Nat → Option Nat → Int32 → Int32 → zM} (h4 : ∀ (a0 : Option Nat) (a1 : Option Nat) (a2 : Int32) (a3 : Int32) , zW p l e R s m args below meth c E D tA 5 k0 (k4 a0 a1 a2 a3) [(0, zP a0), (1, zP a1), (2, zI a2), (3, zI a3)] 4 []) : ∀ (n : Nat) (a0 : Option Nat) (a1 : Option Nat) (a2 : Int32) (a3 : Int32) (a4 : Int32), zW p l e R s m args below meth c E D tA 5 k0 (s_X12_isSameAs_13 E k4 n a0 a1 a2 a3 a4) [(0, zP a0), (1, zP a1), (2, zI a2), (3, zI a3), (4, zI a4)] 13 [] := by
  intro n
  induction n with
  | zero => intro a0 a1 a2 a3 a4; exact z_fail
  | succ n h13 =>
    intro a0 a1 a2 a3 a4
    rw [s_X12_isSameAs_13]
    refine z_iload (pc := 13) x 4 dX12_isSameAs_13 rfl ?_
    refine z_bipush (pc := 15) x (v := (100 : Int32)) dX12_isSameAs_15 rfl ?_
    refine z_icmp_ge (pc := 17) (tgt := 55) x dX12_isSameAs_17 rfl (fun _ => ?_) (fun _ => ?_)
    · refine z_iinc (pc := 55) (lv' := [(3, zI (a3 + (1 : Int32))), (0, zP a0), (1, zP a1), (2, zI a2), (4, zI a4)]) x (v2 := (a3 + (1 : Int32))) 3 dX12_isSameAs_55 rfl rfl (Nat.le_of_ble_eq_true rfl) rfl ?_
      refine z_goto (pc := 58) (tgt := 4) x dX12_isSameAs_58 rfl ?_
      exact z_sub [1, 2, 3, 0] rfl (h4 a0 a1 a2 (a3 + (1 : Int32)))
    · refine z_iload_n (pc := 20) x 2 dX12_isSameAs_20 rfl rfl ?_
      refine z_aload_n (pc := 21) x 0 dX12_isSameAs_21 rfl rfl ?_
      refine z_get (pc := 22) (fun _ _ h => zAsR_eq h) x in_X12 (ci := 18) rfl (k := 1) (by decide) q999 (fun _ h => h) dX12_isSameAs_22 fun v22 => ?_
      refine z_iload_n (pc := 25) x 3 dX12_isSameAs_25 rfl rfl ?_
      refine z_aald (pc := 26) x (t := 7) rfl rfl dX12_isSameAs_26 fun v26 => ?_
      refine z_iload (pc := 27) x 4 dX12_isSameAs_27 rfl ?_
      refine z_iald (pc := 29) x (t := 0) rfl dX12_isSameAs_29 fun v29 => ?_
      refine z_aload_n (pc := 30) x 1 dX12_isSameAs_30 rfl rfl ?_
      refine z_get (pc := 31) (fun _ _ h => zAsR_eq h) x in_X12 (ci := 18) rfl (k := 1) (by decide) q999 (fun _ h => h) dX12_isSameAs_31 fun v31 => ?_
      refine z_iload_n (pc := 34) x 3 dX12_isSameAs_34 rfl rfl ?_
      refine z_aald (pc := 35) x (t := 7) rfl rfl dX12_isSameAs_35 fun v35 => ?_
      refine z_iload (pc := 36) x 4 dX12_isSameAs_36 rfl ?_
      refine z_iald (pc := 38) x (t := 0) rfl dX12_isSameAs_38 fun v38 => ?_
      refine z_icmp_ne (pc := 39) (tgt := 46) x dX12_isSameAs_39 rfl (fun _ => ?_) (fun _ => ?_)
      · refine z_iconst (pc := 42) x (v := (1 : Int32)) dX12_isSameAs_42 rfl ?_
        refine z_goto (pc := 43) (tgt := 47) x dX12_isSameAs_43 rfl ?_
        exact z_sub [0, 1, 3, 4] rfl (w_X12_isSameAs_47 x hl hret hnm htab h4 h13 a0 a1 a3 a4 a2 (1 : Int32))
      · refine z_iconst (pc := 46) x (v := (0 : Int32)) dX12_isSameAs_46 rfl ?_
        exact z_sub [0, 1, 3, 4] rfl (w_X12_isSameAs_47 x hl hret hnm htab h4 h13 a0 a1 a3 a4 a2 (0 : Int32))
def s_X12_isSameAs_4 (E : zE) : Nat → Option Nat → Option Nat → Int32 → Int32 → zM
  | 0, _, _, _, _ => zFail
  | n + 1, a0, a1, a2, a3 => if (8 : Int32) ≤ a3 then (zRetN .boolean a2) else (s_X12_isSameAs_13 E (s_X12_isSameAs_4 E n) zN a0 a1 a2 a3 (0 : Int32))
theorem w_X12_isSameAs_4 (x : zCx p l R s m args meth c E D tA cX12_isSameAs 5 yX12_isSameAs.cls 9) (hl : l.stackTraces = false) (hret : meth.sig.returnType = (Option.some Jvm.ClassFile.FieldType.boolean)) (hnm : meth.name = yX12_isSameAs.name) (htab : ∀ z ∈ c.exceptionTable.toList, False) : ∀ (n : Nat) (a0 : Option Nat) (a1 : Option Nat) (a2 : Int32) (a3 : Int32), zW p l e R s m args below meth c E D tA 5 k0 (s_X12_isSameAs_4 E n a0 a1 a2 a3) [(0, zP a0), (1, zP a1), (2, zI a2), (3, zI a3)] 4 [] := by
  intro n
  induction n with
  | zero => intro a0 a1 a2 a3; exact z_fail
  | succ n h4 =>
    intro a0 a1 a2 a3
    rw [s_X12_isSameAs_4]
    refine z_iload_n (pc := 4) x 3 dX12_isSameAs_4 rfl rfl ?_
    refine z_bipush (pc := 5) x (v := (8 : Int32)) dX12_isSameAs_5 rfl ?_
    refine z_icmp_ge (pc := 7) (tgt := 61) x dX12_isSameAs_7 rfl (fun _ => ?_) (fun _ => ?_)
    · refine z_iload_n (pc := 61) x 2 dX12_isSameAs_61 rfl rfl ?_
      exact z_zret (pc := 62) x hret dX12_isSameAs_62
    · refine z_iconst (pc := 10) x (v := (0 : Int32)) dX12_isSameAs_10 rfl ?_
      refine z_istore (pc := 11) (lv' := [(4, zI (0 : Int32)), (0, zP a0), (1, zP a1), (2, zI a2), (3, zI a3)]) x dX12_isSameAs_11 (Nat.le_of_ble_eq_true rfl) rfl ?_
      exact z_sub [1, 2, 3, 4, 0] rfl (w_X12_isSameAs_13 x hl hret hnm htab h4 zN a0 a1 a2 a3 (0 : Int32))
def s_X12_isSameAs (E : zE) (a0 : Option Nat) (a1 : Option Nat) : zM := s_X12_isSameAs_4 E zN a0 a1 (1 : Int32) (0 : Int32)
theorem m_X12_isSameAs {l : Launch} {E : zE} {D : va_G} {tA : Nat → ClassId} (hl : l.stackTraces = false) (a0 : Option Nat) (a1 : Option Nat) : zMet l E D tA yX12_isSameAs (ws_ yX12_isSameAs cX12_isSameAs 5 (Option.some Jvm.ClassFile.FieldType.boolean)) 9 (s_X12_isSameAs E a0 a1) [zP a0, zP a1] := by
  refine z_met hl (by decide +kernel) (by rw [zSl_len]; exact (Nat.le_of_ble_eq_true rfl)) fun p e R s m args below meth c k0 x hret hnm htab => ?_
  refine z_lv [(0, zP a0), (1, zP a1)] rfl ?_
  unfold s_X12_isSameAs
  refine z_iconst (pc := 0) x (v := (1 : Int32)) dX12_isSameAs_0 rfl ?_
  refine z_istore_n (pc := 1) (lv' := [(2, zI (1 : Int32)), (0, zP a0), (1, zP a1)]) x dX12_isSameAs_1 rfl (Nat.le_of_ble_eq_true rfl) rfl ?_
  refine z_iconst (pc := 2) x (v := (0 : Int32)) dX12_isSameAs_2 rfl ?_
  refine z_istore_n (pc := 3) (lv' := [(3, zI (0 : Int32)), (2, zI (1 : Int32)), (0, zP a0), (1, zP a1)]) x dX12_isSameAs_3 rfl (Nat.le_of_ble_eq_true rfl) rfl ?_
  exact z_sub [2, 3, 1, 0] rfl (w_X12_isSameAs_4 x hl hret hnm htab zN a0 a1 (1 : Int32) (0 : Int32))
/-! X2_isPredicateSo -/
def s_X2_isPredicateSo_37 (E : zE) (a1 : Int32) (a2 : Option Nat) (b0 : Int32) : zM := if b0 = 0 then (zRetN .boolean (0 : Int32)) else (zC (zRv a2 [(35, fun b => s_X7_layers E (some b))]) zThr (zKR (fun v43 => zGaI 0 v43 a1 (fun v47 => zC (zRv a2 [(35, fun b => s_X7_longestChain E 20 (some b) a1 ((1 : Int32) <<< (a1 &&& 31)))]) zThr (zKI (fun v53 => if v47 = v53 then (zRetN .boolean (1 : Int32)) else (zRetN .boolean (0 : Int32))))))))
theorem w_X2_isPredicateSo_37 (x : zCx p l R s m args meth c E D tA cX2_isPredicateSo 4 yX2_isPredicateSo.cls 521) (hl : l.stackTraces = false) (hret : meth.sig.returnType = (Option.some Jvm.ClassFile.FieldType.boolean)) (hnm : meth.name = yX2_isPredicateSo.name) (htab : ∀ z ∈ c.exceptionTable.toList, False) (a1 : Int32) (a2 : Option Nat) (b0 : Int32) : zW p l e R s m args below meth c E D tA 4 k0 (s_X2_isPredicateSo_37 E a1 a2 b0) [(1, zI a1), (2, zP a2)] 37 [zI b0] := by
  unfold s_X2_isPredicateSo_37
  refine z_istore_n (pc := 37) (lv' := [(3, zI b0), (1, zI a1), (2, zP a2)]) x dX2_isPredicateSo_37 rfl (Nat.le_of_ble_eq_true rfl) rfl ?_
  refine z_iload_n (pc := 38) x 0 dX2_isPredicateSo_38 rfl rfl ?_
  refine z_if_eq (pc := 39) (tgt := 63) x dX2_isPredicateSo_39 rfl (fun _ => ?_) (fun _ => ?_)
  · refine z_iconst (pc := 63) x (v := (0 : Int32)) dX2_isPredicateSo_63 rfl ?_
    exact z_zret (pc := 64) x hret dX2_isPredicateSo_64
  · refine z_aload_n (pc := 42) x 2 dX2_isPredicateSo_42 rfl rfl ?_
    refine z_call (pc := 43) (z_canV (pc := 43) (As := []) (st := []) x (ci := 35) rfl (fun b => m_X7_layers hl (some b)) q601 q602 (x.2.2.2.2.1 _ q603) q138 q604 n_X7_layers ⟨by decide, by decide⟩ (Nat.le_of_ble_eq_true rfl) dX2_isPredicateSo_43) (zv_R fun v43 => ?_) (fun q => zx_thr x (fun z hz => (htab z hz).elim) q)
    refine z_iload_n (pc := 46) x 1 dX2_isPredicateSo_46 rfl rfl ?_
    refine z_iald (pc := 47) x (t := 0) rfl dX2_isPredicateSo_47 fun v47 => ?_
    refine z_aload_n (pc := 48) x 2 dX2_isPredicateSo_48 rfl rfl ?_
    refine z_iload_n (pc := 49) x 1 dX2_isPredicateSo_49 rfl rfl ?_
    refine z_iconst (pc := 50) x (v := (1 : Int32)) dX2_isPredicateSo_50 rfl ?_
    refine z_iload_n (pc := 51) x 1 dX2_isPredicateSo_51 rfl rfl ?_
    refine z_ishl (pc := 52) x dX2_isPredicateSo_52 ?_
    refine z_call (pc := 53) (z_canV (pc := 53) (As := [zI a1, zI ((1 : Int32) <<< (a1 &&& 31))]) (st := [zI v47]) x (ci := 35) rfl (fun b => m_X7_longestChain hl 20 (some b) a1 ((1 : Int32) <<< (a1 &&& 31))) q1197 q1198 (x.2.2.2.2.1 _ q1199) q138 q1200 n_X7_longestChain ⟨by omega, by omega⟩ (Nat.le_of_ble_eq_true rfl) dX2_isPredicateSo_53) (zv_I fun v53 => ?_) (fun q => zx_thr x (fun z hz => (htab z hz).elim) q)
    refine z_icmp_ne (pc := 56) (tgt := 63) x dX2_isPredicateSo_56 rfl (fun _ => ?_) (fun _ => ?_)
    · refine z_iconst (pc := 59) x (v := (1 : Int32)) dX2_isPredicateSo_59 rfl ?_
      refine z_goto (pc := 60) (tgt := 64) x dX2_isPredicateSo_60 rfl ?_
      exact z_zret (pc := 64) x hret dX2_isPredicateSo_64
    · refine z_iconst (pc := 63) x (v := (0 : Int32)) dX2_isPredicateSo_63 rfl ?_
      exact z_zret (pc := 64) x hret dX2_isPredicateSo_64
def s_X2_isPredicateSo (E : zE) (a0 : Option Nat) (a1 : Int32) (a2 : Option Nat) : zM := zC (zRv a0 [(26, fun b => s_X2_facts E (some b))]) zThr (zKR (fun v1 => zGetR v1 32 0 (fun v4 => zGaR 6 v4 a1 (fun v8 => zC (zRv v8 [(33, fun b => s_X5_count E (some b))]) zThr (zKI (fun v9 => zNew 24 5 [.null, .null, .null, .int 0, .int 0] (fun v12 => zC (zSp v12 (fun b => s_X18_init E (some b) a0)) zThr (zKV (zC (zRv v12 [(24, fun b => s_X18_solve E 10 (some b) a1 (-1 : Int32) (-1 : Int32))]) zThr (zKR (fun v23 => zC (zRv v23 [(33, fun b => s_X5_count E (some b))]) zThr (zKI (fun v26 => if v9 = v26 then (s_X2_isPredicateSo_37 E a1 a2 (1 : Int32)) else (s_X2_isPredicateSo_37 E a1 a2 (0 : Int32)))))))))))))))
theorem m_X2_isPredicateSo {l : Launch} {E : zE} {D : va_G} {tA : Nat → ClassId} (hl : l.stackTraces = false) (a0 : Option Nat) (a1 : Int32) (a2 : Option Nat) : zMet l E D tA yX2_isPredicateSo (ws_ yX2_isPredicateSo cX2_isPredicateSo 4 (Option.some Jvm.ClassFile.FieldType.boolean)) 521 (s_X2_isPredicateSo E a0 a1 a2) [zP a0, zI a1, zP a2] := by
  refine z_met hl (by decide +kernel) (by rw [zSl_len]; exact (Nat.le_of_ble_eq_true rfl)) fun p e R s m args below meth c k0 x hret hnm htab => ?_
  refine z_lv [(0, zP a0), (1, zI a1), (2, zP a2)] rfl ?_
  unfold s_X2_isPredicateSo
  refine z_aload_n (pc := 0) x 0 dX2_isPredicateSo_0 rfl rfl ?_
  refine z_call (pc := 1) (z_canV (pc := 1) (As := []) (st := []) x (ci := 26) rfl (fun b => m_X2_facts hl (some b)) q984 q369 (x.2.2.2.2.1 _ q370) q109 q371 n_X2_facts ⟨by decide, by decide⟩ (Nat.le_of_ble_eq_true rfl) dX2_isPredicateSo_1) (zv_R fun v1 => ?_) (fun q => zx_thr x (fun z hz => (htab z hz).elim) q)
  refine z_getN (pc := 4) (fun _ _ h => zAsR_eq h) x in_X4 (ci := 32) rfl (k := 0) (by decide) q243 (fun _ h => h) dX2_isPredicateSo_4 fun v4 => ?_
  refine z_iload_n (pc := 7) x 1 dX2_isPredicateSo_7 rfl rfl ?_
  refine z_aald (pc := 8) x (t := 6) rfl rfl dX2_isPredicateSo_8 fun v8 => ?_
  refine z_call (pc := 9) (z_canV (pc := 9) (As := []) (st := []) x (ci := 33) rfl (fun b => m_X5_count hl (some b)) q1062 q355 (x.2.2.2.2.1 _ q356) q115 q357 n_X5_count ⟨by decide, by decide⟩ (Nat.le_of_ble_eq_true rfl) dX2_isPredicateSo_9) (zv_I fun v9 => ?_) (fun q => zx_thr x (fun z hz => (htab z hz).elim) q)
  refine z_new (pc := 12) x in_X18 tyX18 tyX18_ok q1063 q1064 q154 (ci := 24) rfl (by decide) (by decide +kernel) dX2_isPredicateSo_12 fun v12 => ?_
  refine z_dup (pc := 15) x dX2_isPredicateSo_15 rfl ?_
  refine z_aload_n (pc := 16) x 0 dX2_isPredicateSo_16 rfl rfl ?_
  refine z_call (pc := 17) (z_canI (pc := 17) (ret := none) (As := [zP a0]) (st := [zP v12, zI v9]) x (fun b => m_X18_init hl (some b) a0) q1065 rfl q1066 q154 q1067 n_X18_init ⟨by decide, by decide⟩ (Nat.le_of_ble_eq_true rfl) dX2_isPredicateSo_17) (zv_V ?_) (fun q => zx_thr x (fun z hz => (htab z hz).elim) q)
  refine z_iload_n (pc := 20) x 1 dX2_isPredicateSo_20 rfl rfl ?_
  refine z_iconst (pc := 21) x (v := (-1 : Int32)) dX2_isPredicateSo_21 rfl ?_
  refine z_iconst (pc := 22) x (v := (-1 : Int32)) dX2_isPredicateSo_22 rfl ?_
  refine z_call (pc := 23) (z_canV (pc := 23) (As := [zI a1, zI (-1 : Int32), zI (-1 : Int32)]) (st := [zI v9]) x (ci := 24) rfl (fun b => m_X18_solve hl 10 (some b) a1 (-1 : Int32) (-1 : Int32)) q1089 q1090 (x.2.2.2.2.1 _ q1091) q154 q1092 n_X18_solve ⟨by omega, by omega⟩ (Nat.le_of_ble_eq_true rfl) dX2_isPredicateSo_23) (zv_R fun v23 => ?_) (fun q => zx_thr x (fun z hz => (htab z hz).elim) q)
  refine z_call (pc := 26) (z_canV (pc := 26) (As := []) (st := [zI v9]) x (ci := 33) rfl (fun b => m_X5_count hl (some b)) q1062 q355 (x.2.2.2.2.1 _ q356) q115 q357 n_X5_count ⟨by decide, by decide⟩ (Nat.le_of_ble_eq_true rfl) dX2_isPredicateSo_26) (zv_I fun v26 => ?_) (fun q => zx_thr x (fun z hz => (htab z hz).elim) q)
  refine z_icmp_ne (pc := 29) (tgt := 36) x dX2_isPredicateSo_29 rfl (fun _ => ?_) (fun _ => ?_)
  · refine z_iconst (pc := 32) x (v := (1 : Int32)) dX2_isPredicateSo_32 rfl ?_
    refine z_goto (pc := 33) (tgt := 37) x dX2_isPredicateSo_33 rfl ?_
    exact z_sub [1, 2] rfl (w_X2_isPredicateSo_37 x hl hret hnm htab a1 a2 (1 : Int32))
  · refine z_iconst (pc := 36) x (v := (0 : Int32)) dX2_isPredicateSo_36 rfl ?_
    exact z_sub [1, 2] rfl (w_X2_isPredicateSo_37 x hl hret hnm htab a1 a2 (0 : Int32))
end ZGEN5
