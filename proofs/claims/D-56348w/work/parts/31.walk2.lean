/-! ===== walks (by program) ===== -/
set_option maxRecDepth 100000
set_option linter.unusedVariables false
section ZGEN2
variable {p : Program} {l : Launch} {e : Env} {R : Room} {s : State} {m : MethodId} {args : Array Value} {below : List Frame} {meth : Method} {c : Code} {E : zE} {D : va_G} {tA : Nat → ClassId} {k0 : Nat}
/-! X9_bind -/
def s_X9_bind_18 (E : zE) (a1 : Int32) (a3 : Int32) : zM := if a3 = (-1 : Int32) then (zRetN .boolean (1 : Int32)) else (if a3 = a1 then (zRetN .boolean (1 : Int32)) else (zRetN .boolean (0 : Int32)))
theorem w_X9_bind_18 (x : zCx p l R s m args meth c E D tA cX9_bind 4 yX9_bind.cls 10) (hl : l.stackTraces = false) (hret : meth.sig.returnType = (Option.some Jvm.ClassFile.FieldType.boolean)) (hnm : meth.name = yX9_bind.name) (htab : ∀ z ∈ c.exceptionTable.toList, False) (a1 : Int32) (a3 : Int32) : zW p l e R s m args below meth c E D tA 4 k0 (s_X9_bind_18 E a1 a3) [(1, zI a1), (3, zI a3)] 18 [] := by
  unfold s_X9_bind_18
  refine z_iload_n (pc := 18) x 1 dX9_bind_18 rfl rfl ?_
  refine z_iconst (pc := 19) x (v := (-1 : Int32)) dX9_bind_19 rfl ?_
  refine z_icmp_eq (pc := 20) (tgt := 28) x dX9_bind_20 rfl (fun _ => ?_) (fun _ => ?_)
  · refine z_iconst (pc := 28) x (v := (1 : Int32)) dX9_bind_28 rfl ?_
    refine z_goto (pc := 29) (tgt := 33) x dX9_bind_29 rfl ?_
    exact z_zret (pc := 33) x hret dX9_bind_33
  · refine z_iload_n (pc := 23) x 1 dX9_bind_23 rfl rfl ?_
    refine z_iload_n (pc := 24) x 0 dX9_bind_24 rfl rfl ?_
    refine z_icmp_ne (pc := 25) (tgt := 32) x dX9_bind_25 rfl (fun _ => ?_) (fun _ => ?_)
    · refine z_iconst (pc := 28) x (v := (1 : Int32)) dX9_bind_28 rfl ?_
      refine z_goto (pc := 29) (tgt := 33) x dX9_bind_29 rfl ?_
      exact z_zret (pc := 33) x hret dX9_bind_33
    · refine z_iconst (pc := 32) x (v := (0 : Int32)) dX9_bind_32 rfl ?_
      exact z_zret (pc := 33) x hret dX9_bind_33
def s_X9_bind (E : zE) (a0 : Int32) (a1 : Int32) (a2 : Option Nat) : zM := zC (s_X1_valueOf E a0 a2) zThr (zKI (fun v2 => if v2 = (-1 : Int32) then (zSaI E 0 a2 (a0 - (10 : Int32)) a1 (s_X9_bind_18 E a1 v2)) else (s_X9_bind_18 E a1 v2)))
theorem m_X9_bind {l : Launch} {E : zE} {D : va_G} {tA : Nat → ClassId} (hl : l.stackTraces = false) (a0 : Int32) (a1 : Int32) (a2 : Option Nat) : zMet l E D tA yX9_bind (ws_ yX9_bind cX9_bind 4 (Option.some Jvm.ClassFile.FieldType.boolean)) 10 (s_X9_bind E a0 a1 a2) [zI a0, zI a1, zP a2] := by
  refine z_met hl (by decide +kernel) (by rw [zSl_len]; exact (Nat.le_of_ble_eq_true rfl)) fun p e R s m args below meth c k0 x hret hnm htab => ?_
  refine z_lv [(0, zI a0), (1, zI a1), (2, zP a2)] rfl ?_
  unfold s_X9_bind
  refine z_iload_n (pc := 0) x 0 dX9_bind_0 rfl rfl ?_
  refine z_aload_n (pc := 1) x 2 dX9_bind_1 rfl rfl ?_
  refine z_call (pc := 2) (z_canSN (pc := 2) (As := [zI a0, zP a2]) (st := []) x (m_X1_valueOf hl a0 a2) q803 q804 q108 q805 n_X1_valueOf ⟨by decide, by decide⟩ (Nat.le_of_ble_eq_true rfl) dX9_bind_2) (zv_I fun v2 => ?_) (fun q => zx_thr x (fun z hz => (htab z hz).elim) q)
  refine z_istore_n (pc := 5) (lv' := [(3, zI v2), (0, zI a0), (1, zI a1), (2, zP a2)]) x dX9_bind_5 rfl (Nat.le_of_ble_eq_true rfl) rfl ?_
  refine z_iload_n (pc := 6) x 0 dX9_bind_6 rfl rfl ?_
  refine z_iconst (pc := 7) x (v := (-1 : Int32)) dX9_bind_7 rfl ?_
  refine z_icmp_ne (pc := 8) (tgt := 18) x dX9_bind_8 rfl (fun _ => ?_) (fun _ => ?_)
  · refine z_aload_n (pc := 11) x 3 dX9_bind_11 rfl rfl ?_
    refine z_iload_n (pc := 12) x 1 dX9_bind_12 rfl rfl ?_
    refine z_bipush (pc := 13) x (v := (10 : Int32)) dX9_bind_13 rfl ?_
    refine z_isub (pc := 15) x dX9_bind_15 ?_
    refine z_iload_n (pc := 16) x 2 dX9_bind_16 rfl rfl ?_
    refine z_iast (pc := 17) x (t := 0) rfl dX9_bind_17 ?_
    exact z_sub [2, 0] rfl (w_X9_bind_18 x hl hret hnm htab a1 v2)
  · exact z_sub [2, 0] rfl (w_X9_bind_18 x hl hret hnm htab a1 v2)
/-! X9_match -/
def s_X9_match (E : zE) (a0 : Option Nat) (a1 : Int32) (a2 : Option Nat) : zM := zGetI a0 37 0 (fun v1 => zC (s_X1_isPair E v1) zThr (zKI (fun v4 => if v4 = 0 then (zGetI a0 37 1 (fun v11 => zC (s_X9_bind E v11 a1 a2) zThr (zKI (fun v16 => zRetN .boolean v16)))) else (zGetI a0 37 1 (fun v21 => zDiv a1 (10 : Int32) (fun v27 => zC (s_X9_bind E v21 v27 a2) zThr (zKI (fun v29 => if v29 = 0 then (zRetN .boolean (0 : Int32)) else (zGetI a0 37 2 (fun v36 => zRem a1 (10 : Int32) (fun v42 => zC (s_X9_bind E v36 v42 a2) zThr (zKI (fun v44 => if v44 = 0 then (zRetN .boolean (0 : Int32)) else (zRetN .boolean (1 : Int32)))))))))))))))
theorem m_X9_match {l : Launch} {E : zE} {D : va_G} {tA : Nat → ClassId} (hl : l.stackTraces = false) (a0 : Option Nat) (a1 : Int32) (a2 : Option Nat) : zMet l E D tA yX9_match (ws_ yX9_match cX9_match 3 (Option.some Jvm.ClassFile.FieldType.boolean)) 11 (s_X9_match E a0 a1 a2) [zP a0, zI a1, zP a2] := by
  refine z_met hl (by decide +kernel) (by rw [zSl_len]; exact (Nat.le_of_ble_eq_true rfl)) fun p e R s m args below meth c k0 x hret hnm htab => ?_
  refine z_lv [(0, zP a0), (1, zI a1), (2, zP a2)] rfl ?_
  unfold s_X9_match
  refine z_aload_n (pc := 0) x 0 dX9_match_0 rfl rfl ?_
  refine z_get (pc := 1) (fun _ _ h => zAsI_eq h) x in_X9 (ci := 37) rfl (k := 0) (by decide) q2358 (fun _ h => h) dX9_match_1 fun v1 => ?_
  refine z_call (pc := 4) (z_canSN (pc := 4) (As := [zI v1]) (st := []) x (m_X1_isPair hl v1) q806 q807 q108 q808 n_X1_isPair ⟨by decide, by decide⟩ (Nat.le_of_ble_eq_true rfl) dX9_match_4) (zv_I fun v4 => ?_) (fun q => zx_thr x (fun z hz => (htab z hz).elim) q)
  refine z_if_ne (pc := 7) (tgt := 20) x dX9_match_7 rfl (fun _ => ?_) (fun _ => ?_)
  · refine z_aload_n (pc := 10) x 0 dX9_match_10 rfl rfl ?_
    refine z_get (pc := 11) (fun _ _ h => zAsI_eq h) x in_X9 (ci := 37) rfl (k := 1) (by decide) q2369 (fun _ h => h) dX9_match_11 fun v11 => ?_
    refine z_iload_n (pc := 14) x 1 dX9_match_14 rfl rfl ?_
    refine z_aload_n (pc := 15) x 2 dX9_match_15 rfl rfl ?_
    refine z_call (pc := 16) (z_canS (pc := 16) (As := [zI v11, zI a1, zP a2]) (st := []) x (m_X9_bind hl v11 a1 a2) q867 q868 q143 q869 n_X9_bind ⟨by decide, by decide⟩ (Nat.le_of_ble_eq_true rfl) dX9_match_16) (zv_I fun v16 => ?_) (fun q => zx_thr x (fun z hz => (htab z hz).elim) q)
    exact z_zret (pc := 19) x hret dX9_match_19
  · refine z_aload_n (pc := 20) x 0 dX9_match_20 rfl rfl ?_
    refine z_get (pc := 21) (fun _ _ h => zAsI_eq h) x in_X9 (ci := 37) rfl (k := 1) (by decide) q2369 (fun _ h => h) dX9_match_21 fun v21 => ?_
    refine z_iload_n (pc := 24) x 1 dX9_match_24 rfl rfl ?_
    refine z_bipush (pc := 25) x (v := (10 : Int32)) dX9_match_25 rfl ?_
    refine z_idiv (pc := 27) x dX9_match_27 fun v27 => ?_
    refine z_aload_n (pc := 28) x 2 dX9_match_28 rfl rfl ?_
    refine z_call (pc := 29) (z_canS (pc := 29) (As := [zI v21, zI v27, zP a2]) (st := []) x (m_X9_bind hl v21 v27 a2) q867 q868 q143 q869 n_X9_bind ⟨by decide, by decide⟩ (Nat.le_of_ble_eq_true rfl) dX9_match_29) (zv_I fun v29 => ?_) (fun q => zx_thr x (fun z hz => (htab z hz).elim) q)
    refine z_if_eq (pc := 32) (tgt := 54) x dX9_match_32 rfl (fun _ => ?_) (fun _ => ?_)
    · refine z_iconst (pc := 54) x (v := (0 : Int32)) dX9_match_54 rfl ?_
      exact z_zret (pc := 55) x hret dX9_match_55
    · refine z_aload_n (pc := 35) x 0 dX9_match_35 rfl rfl ?_
      refine z_get (pc := 36) (fun _ _ h => zAsI_eq h) x in_X9 (ci := 37) rfl (k := 2) (by decide) q2371 (fun _ h => h) dX9_match_36 fun v36 => ?_
      refine z_iload_n (pc := 39) x 1 dX9_match_39 rfl rfl ?_
      refine z_bipush (pc := 40) x (v := (10 : Int32)) dX9_match_40 rfl ?_
      refine z_irem (pc := 42) x dX9_match_42 fun v42 => ?_
      refine z_aload_n (pc := 43) x 2 dX9_match_43 rfl rfl ?_
      refine z_call (pc := 44) (z_canS (pc := 44) (As := [zI v36, zI v42, zP a2]) (st := []) x (m_X9_bind hl v36 v42 a2) q867 q868 q143 q869 n_X9_bind ⟨by decide, by decide⟩ (Nat.le_of_ble_eq_true rfl) dX9_match_44) (zv_I fun v44 => ?_) (fun q => zx_thr x (fun z hz => (htab z hz).elim) q)
      refine z_if_eq (pc := 47) (tgt := 54) x dX9_match_47 rfl (fun _ => ?_) (fun _ => ?_)
      · refine z_iconst (pc := 54) x (v := (0 : Int32)) dX9_match_54 rfl ?_
        exact z_zret (pc := 55) x hret dX9_match_55
      · refine z_iconst (pc := 50) x (v := (1 : Int32)) dX9_match_50 rfl ?_
        refine z_goto (pc := 51) (tgt := 55) x dX9_match_51 rfl ?_
        exact z_zret (pc := 55) x hret dX9_match_55
/-! X8_join -/
def s_X8_join_136 (E : zE) (r_X8_join : Option Nat → Option Nat → Int32 → Int32 → Option Nat → zM) (k86 : Option Nat → Option Nat → Int32 → Int32 → Option Nat → Option Nat → Option Nat → Int32 → zM) (a0 : Option Nat) (a1 : Option Nat) (a2 : Int32) (a3 : Int32) (a4 : Option Nat) (a5 : Option Nat) (a6 : Option Nat) (a7 : Int32) : zM := k86 a0 a1 a2 a3 a4 a5 a6 (a7 + (1 : Int32))
theorem w_X8_join_136 {fr_X8_join : Nat} {r_X8_join : Option Nat → Option Nat → Int32 → Int32 → Option Nat → zM} (x : zCx p l R s m args meth c E D tA cX8_join 9 yX8_join.cls (fr_X8_join + 1)) (hl : l.stackTraces = false) (hret : meth.sig.returnType = (Option.none : Option Jvm.ClassFile.FieldType)) (hnm : meth.name = yX8_join.name) (htab : ∀ z ∈ c.exceptionTable.toList, False) (hr_X8_join : ∀ (a0 : Option Nat) (a1 : Option Nat) (a2 : Int32) (a3 : Int32) (a4 : Option Nat), zMet l E D tA yX8_join (ws_ yX8_join cX8_join 9 (Option.none : Option Jvm.ClassFile.FieldType)) fr_X8_join (r_X8_join a0 a1 a2 a3 a4) [zP a0, zP a1, zI a2, zI a3, zP a4]) (hB_X8_join : 60 ≤ fr_X8_join) {k86 : Option Nat → Option Nat → Int32 → Int32 → Option Nat → Option Nat → Option Nat → Int32 → zM} (h86 : ∀ (a0 : Option Nat) (a1 : Option Nat) (a2 : Int32) (a3 : Int32) (a4 : Option Nat) (a5 : Option Nat) (a6 : Option Nat) (a7 : Int32) , zW p l e R s m args below meth c E D tA 9 k0 (k86 a0 a1 a2 a3 a4 a5 a6 a7) [(0, zP a0), (1, zP a1), (2, zI a2), (3, zI a3), (4, zP a4), (5, zP a5), (6, zP a6), (7, zI a7)] 86 []) (a0 : Option Nat) (a1 : Option Nat) (a2 : Int32) (a3 : Int32) (a4 : Option Nat) (a5 : Option Nat) (a6 : Option Nat) (a7 : Int32) : zW p l e R s m args below meth c E D tA 9 k0 (s_X8_join_136 E r_X8_join k86 a0 a1 a2 a3 a4 a5 a6 a7) [(0, zP a0), (1, zP a1), (2, zI a2), (3, zI a3), (4, zP a4), (5, zP a5), (6, zP a6), (7, zI a7)] 136 [] := by
  unfold s_X8_join_136
  refine z_iinc (pc := 136) (lv' := [(7, zI (a7 + (1 : Int32))), (0, zP a0), (1, zP a1), (2, zI a2), (3, zI a3), (4, zP a4), (5, zP a5), (6, zP a6)]) x (v2 := (a7 + (1 : Int32))) 7 dX8_join_136 rfl rfl (Nat.le_of_ble_eq_true rfl) rfl ?_
  refine z_goto (pc := 139) (tgt := 86) x dX8_join_139 rfl ?_
  exact z_sub [1, 2, 3, 4, 5, 6, 7, 0] rfl (h86 a0 a1 a2 a3 a4 a5 a6 (a7 + (1 : Int32)))
def s_X8_join_86 (E : zE) (r_X8_join : Option Nat → Option Nat → Int32 → Int32 → Option Nat → zM) : Nat → Option Nat → Option Nat → Int32 → Int32 → Option Nat → Option Nat → Option Nat → Int32 → zM
  | 0, _, _, _, _, _, _, _, _ => zFail
  | n + 1, a0, a1, a2, a3, a4, a5, a6, a7 => if (100 : Int32) ≤ a7 then (zRet none) else (zCln 0 a4 (fun v95 => zCsA 0 v95 (zC (zRv a6 [(33, fun b => s_X5_has E (some b) a7)]) zThr (zKI (fun v107 => if v107 = 0 then (s_X8_join_136 E r_X8_join (s_X8_join_86 E r_X8_join n) a0 a1 a2 a3 a4 a5 a6 a7) else (zC (zRv a5 [(37, fun b => s_X9_match E (some b) a7 v95)]) zThr (zKI (fun v119 => if v119 = 0 then (s_X8_join_136 E r_X8_join (s_X8_join_86 E r_X8_join n) a0 a1 a2 a3 a4 a5 a6 a7) else (zC (zRv a0 [(36, fun b => r_X8_join (some b) a1 (a2 + (1 : Int32)) a3 v95)]) zThr (zKV (s_X8_join_136 E r_X8_join (s_X8_join_86 E r_X8_join n) a0 a1 a2 a3 a4 a5 a6 a7)))))))))))
theorem w_X8_join_86 {fr_X8_join : Nat} {r_X8_join : Option Nat → Option Nat → Int32 → Int32 → Option Nat → zM} (x : zCx p l R s m args meth c E D tA cX8_join 9 yX8_join.cls (fr_X8_join + 1)) (hl : l.stackTraces = false) (hret : meth.sig.returnType = (Option.none : Option Jvm.ClassFile.FieldType)) (hnm : meth.name = yX8_join.name) (htab : ∀ z ∈ c.exceptionTable.toList, False) (hr_X8_join : ∀ (a0 : Option Nat) (a1 : Option Nat) (a2 : Int32) (a3 : Int32) (a4 : Option Nat), zMet l E D tA yX8_join (ws_ yX8_join cX8_join 9 (Option.none : Option Jvm.ClassFile.FieldType)) fr_X8_join (r_X8_join a0 a1 a2 a3 a4) [zP a0, zP a1, zI a2, zI a3, zP a4]) (hB_X8_join : 60 ≤ fr_X8_join) : ∀ (n : Nat) (a0 : Option Nat) (a1 : Option Nat) (a2 : Int32) (a3 : Int32) (a4 : Option Nat) (a5 : Option Nat) (a6 : Option Nat) (a7 : Int32), zW p l e R s m args below meth c E D tA 9 k0 (s_X8_join_86 E r_X8_join n a0 a1 a2 a3 a4 a5 a6 a7) [(0, zP a0), (1, zP a1), (2, zI a2), (3, zI a3), (4, zP a4), (5, zP a5), (6, zP a6), (7, zI a7)] 86 [] := by
  intro n
  induction n with
  | zero => intro a0 a1 a2 a3 a4 a5 a6 a7; exact z_fail
  | succ n h86 =>
    intro a0 a1 a2 a3 a4 a5 a6 a7
    rw [s_X8_join_86]
    refine z_iload (pc := 86) x 7 dX8_join_86 rfl ?_
    refine z_bipush (pc := 88) x (v := (100 : Int32)) dX8_join_88 rfl ?_
    refine z_icmp_ge (pc := 90) (tgt := 142) x dX8_join_90 rfl (fun _ => ?_) (fun _ => ?_)
    · exact z_vret (pc := 142) x hret dX8_join_142
    · refine z_aload (pc := 93) x 4 dX8_join_93 rfl ?_
      refine z_cln (pc := 95) x (t := 0) (ad := "[I") rfl (fun _ hc => hc) q776 q629 q630 q631 q632 q633 (by omega) (zSum (k := 0) rfl (by omega)) dX8_join_95 fun v95 => ?_
      refine z_csA (pc := 98) x (t := 0) rfl (fun _ hc => hc) q777 dX8_join_98 ?_
      refine z_astore (pc := 101) (lv' := [(8, zP v95), (0, zP a0), (1, zP a1), (2, zI a2), (3, zI a3), (4, zP a4), (5, zP a5), (6, zP a6), (7, zI a7)]) x dX8_join_101 (Nat.le_of_ble_eq_true rfl) rfl ?_
      refine z_aload (pc := 103) x 7 dX8_join_103 rfl ?_
      refine z_iload (pc := 105) x 8 dX8_join_105 rfl ?_
      refine z_call (pc := 107) (z_canV (pc := 107) (As := [zI a7]) (st := []) x (ci := 33) rfl (fun b => m_X5_has hl (some b) a7) q862 q818 (x.2.2.2.2.1 _ q819) q115 q820 n_X5_has ⟨by omega, by omega⟩ (Nat.le_of_ble_eq_true rfl) dX8_join_107) (zv_I fun v107 => ?_) (fun q => zx_thr x (fun z hz => (htab z hz).elim) q)
      refine z_if_eq (pc := 110) (tgt := 136) x dX8_join_110 rfl (fun _ => ?_) (fun _ => ?_)
      · exact z_sub [1, 2, 3, 4, 5, 6, 7, 8] rfl (w_X8_join_136 x hl hret hnm htab hr_X8_join hB_X8_join h86 a0 a1 a2 a3 a4 a5 a6 a7)
      · refine z_aload (pc := 113) x 6 dX8_join_113 rfl ?_
        refine z_iload (pc := 115) x 8 dX8_join_115 rfl ?_
        refine z_aload (pc := 117) x 0 dX8_join_117 rfl ?_
        refine z_call (pc := 119) (z_canV (pc := 119) (As := [zI a7, zP v95]) (st := []) x (ci := 37) rfl (fun b => m_X9_match hl (some b) a7 v95) q863 q864 (x.2.2.2.2.1 _ q865) q143 q866 n_X9_match ⟨by omega, by omega⟩ (Nat.le_of_ble_eq_true rfl) dX8_join_119) (zv_I fun v119 => ?_) (fun q => zx_thr x (fun z hz => (htab z hz).elim) q)
        refine z_if_eq (pc := 122) (tgt := 136) x dX8_join_122 rfl (fun _ => ?_) (fun _ => ?_)
        · exact z_sub [1, 2, 3, 4, 5, 6, 7, 8] rfl (w_X8_join_136 x hl hret hnm htab hr_X8_join hB_X8_join h86 a0 a1 a2 a3 a4 a5 a6 a7)
        · refine z_aload_n (pc := 125) x 1 dX8_join_125 rfl rfl ?_
          refine z_aload_n (pc := 126) x 2 dX8_join_126 rfl rfl ?_
          refine z_iload_n (pc := 127) x 3 dX8_join_127 rfl rfl ?_
          refine z_iconst (pc := 128) x (v := (1 : Int32)) dX8_join_128 rfl ?_
          refine z_iadd (pc := 129) x dX8_join_129 ?_
          refine z_iload_n (pc := 130) x 4 dX8_join_130 rfl rfl ?_
          refine z_aload (pc := 131) x 0 dX8_join_131 rfl ?_
          refine z_call (pc := 133) (z_canV (pc := 133) (As := [zP a1, zI (a2 + (1 : Int32)), zI a3, zP v95]) (st := []) x (ci := 36) rfl (fun b => hr_X8_join (some b) a1 (a2 + (1 : Int32)) a3 v95) q760 q762 (z_selP x (ci := 36) rfl (by decide) (zNi_inst x q616) q761 q762) q142 q763 n_X8_join ⟨by omega, by omega⟩ (Nat.le_of_ble_eq_true rfl) dX8_join_133) (zv_V ?_) (fun q => zx_thr x (fun z hz => (htab z hz).elim) q)
          exact z_sub [1, 2, 3, 4, 5, 6, 7, 8] rfl (w_X8_join_136 x hl hret hnm htab hr_X8_join hB_X8_join h86 a0 a1 a2 a3 a4 a5 a6 a7)
def s_X8_join_72 (E : zE) (r_X8_join : Option Nat → Option Nat → Int32 → Int32 → Option Nat → zM) (a0 : Option Nat) (a1 : Option Nat) (a2 : Int32) (a3 : Int32) (a4 : Option Nat) (a5 : Option Nat) (b0 : Option Nat) : zM := zGetR b0 32 0 (fun v72 => zGetI a5 37 0 (fun v77 => zGaR 6 v72 v77 (fun v80 => s_X8_join_86 E r_X8_join zN a0 a1 a2 a3 a4 a5 v80 (0 : Int32))))
theorem w_X8_join_72 {fr_X8_join : Nat} {r_X8_join : Option Nat → Option Nat → Int32 → Int32 → Option Nat → zM} (x : zCx p l R s m args meth c E D tA cX8_join 9 yX8_join.cls (fr_X8_join + 1)) (hl : l.stackTraces = false) (hret : meth.sig.returnType = (Option.none : Option Jvm.ClassFile.FieldType)) (hnm : meth.name = yX8_join.name) (htab : ∀ z ∈ c.exceptionTable.toList, False) (hr_X8_join : ∀ (a0 : Option Nat) (a1 : Option Nat) (a2 : Int32) (a3 : Int32) (a4 : Option Nat), zMet l E D tA yX8_join (ws_ yX8_join cX8_join 9 (Option.none : Option Jvm.ClassFile.FieldType)) fr_X8_join (r_X8_join a0 a1 a2 a3 a4) [zP a0, zP a1, zI a2, zI a3, zP a4]) (hB_X8_join : 60 ≤ fr_X8_join) (a0 : Option Nat) (a1 : Option Nat) (a2 : Int32) (a3 : Int32) (a4 : Option Nat) (a5 : Option Nat) (b0 : Option Nat) : zW p l e R s m args below meth c E D tA 9 k0 (s_X8_join_72 E r_X8_join a0 a1 a2 a3 a4 a5 b0) [(0, zP a0), (1, zP a1), (2, zI a2), (3, zI a3), (4, zP a4), (5, zP a5)] 72 [zP b0] := by
  unfold s_X8_join_72
  refine z_getN (pc := 72) (fun _ _ h => zAsR_eq h) x in_X4 (ci := 32) rfl (k := 0) (by decide) q242 (fun _ h => h) dX8_join_72 fun v72 => ?_
  refine z_aload (pc := 75) x 5 dX8_join_75 rfl ?_
  refine z_getN (pc := 77) (fun _ _ h => zAsI_eq h) x in_X9 (ci := 37) rfl (k := 0) (by decide) q2362 (fun _ h => h) dX8_join_77 fun v77 => ?_
  refine z_aald (pc := 80) x (t := 6) rfl rfl dX8_join_80 fun v80 => ?_
  refine z_astore (pc := 81) (lv' := [(6, zP v80), (0, zP a0), (1, zP a1), (2, zI a2), (3, zI a3), (4, zP a4), (5, zP a5)]) x dX8_join_81 (Nat.le_of_ble_eq_true rfl) rfl ?_
  refine z_iconst (pc := 83) x (v := (0 : Int32)) dX8_join_83 rfl ?_
  refine z_istore (pc := 84) (lv' := [(7, zI (0 : Int32)), (6, zP v80), (0, zP a0), (1, zP a1), (2, zI a2), (3, zI a3), (4, zP a4), (5, zP a5)]) x dX8_join_84 (Nat.le_of_ble_eq_true rfl) rfl ?_
  exact z_sub [2, 3, 4, 5, 6, 7, 1, 0] rfl (w_X8_join_86 x hl hret hnm htab hr_X8_join hB_X8_join zN a0 a1 a2 a3 a4 a5 v80 (0 : Int32))
def s_X8_joinb (E : zE) (r_X8_join : Option Nat → Option Nat → Int32 → Int32 → Option Nat → zM) (a0 : Option Nat) (a1 : Option Nat) (a2 : Int32) (a3 : Int32) (a4 : Option Nat) : zM := zGetR a1 31 2 (fun v2 => zC (zRv v2 [(10, fun b => s_J2_size E (some b))]) zThr (zKI (fun v5 => if a2 = v5 then (zC (s_X8_known E a4) zThr (zKR (fun v15 => zGetR a0 36 0 (fun v22 => zC (zRv a1 [(31, fun b => s_X25_holds E (some b) v22 v15)]) zThr (zKI (fun v27 => if v27 = 0 then (zRet none) else (zC (zRv a0 [(36, fun b => s_X8_found E (some b) a1 v15)]) zThr (zKV (zRet none))))))))) else (zGetR a1 31 2 (fun v42 => zC (zRv v42 [(10, fun b => s_J2_get E (some b) a2)]) zThr (zKR (fun v46 => zCsS 37 v46 (if a2 = a3 then (zGetR a0 36 1 (fun v62 => s_X8_join_72 E r_X8_join a0 a1 a2 a3 a4 v46 v62)) else (zGetR a0 36 0 (fun v69 => s_X8_join_72 E r_X8_join a0 a1 a2 a3 a4 v46 v69))))))))))
theorem m_X8_joinb {l : Launch} {E : zE} {D : va_G} {tA : Nat → ClassId} (hl : l.stackTraces = false) {fr_X8_join : Nat} {r_X8_join : Option Nat → Option Nat → Int32 → Int32 → Option Nat → zM} (hr_X8_join : ∀ (a0 : Option Nat) (a1 : Option Nat) (a2 : Int32) (a3 : Int32) (a4 : Option Nat), zMet l E D tA yX8_join (ws_ yX8_join cX8_join 9 (Option.none : Option Jvm.ClassFile.FieldType)) fr_X8_join (r_X8_join a0 a1 a2 a3 a4) [zP a0, zP a1, zI a2, zI a3, zP a4]) (hB_X8_join : 60 ≤ fr_X8_join) (a0 : Option Nat) (a1 : Option Nat) (a2 : Int32) (a3 : Int32) (a4 : Option Nat) : zMet l E D tA yX8_join (ws_ yX8_join cX8_join 9 (Option.none : Option Jvm.ClassFile.FieldType)) (fr_X8_join + 1) (s_X8_joinb E r_X8_join a0 a1 a2 a3 a4) [zP a0, zP a1, zI a2, zI a3, zP a4] := by
  refine z_met hl (by decide +kernel) (by rw [zSl_len]; exact (Nat.le_of_ble_eq_true rfl)) fun p e R s m args below meth c k0 x hret hnm htab => ?_
  refine z_lv [(0, zP a0), (1, zP a1), (2, zI a2), (3, zI a3), (4, zP a4)] rfl ?_
  unfold s_X8_joinb
  refine z_iload_n (pc := 0) x 2 dX8_join_0 rfl rfl ?_
  refine z_aload_n (pc := 1) x 1 dX8_join_1 rfl rfl ?_
  refine z_getN (pc := 2) (fun _ _ h => zAsR_eq h) x in_X25 (ci := 31) rfl (k := 2) (by decide) q2509 (fun _ h => h) dX8_join_2 fun v2 => ?_
  refine z_call (pc := 5) (z_canIF (pc := 5) (As := []) (st := [zI a2]) (x9 := ⟨"java/util/List", "size", "()I"⟩) x (ci := 10) rfl (fun b => m_J2_size hl (some b)) q765 q767 q766 (by decide) q768 q770 q771 q769 q384 q112 q772 nx_java_util_List_size___I ⟨by omega, by omega⟩ (Nat.le_of_ble_eq_true rfl) dX8_join_5) (zv_I fun v5 => ?_) (fun q => zx_thr x (fun z hz => (htab z hz).elim) q)
  refine z_icmp_ne (pc := 10) (tgt := 41) x dX8_join_10 rfl (fun _ => ?_) (fun _ => ?_)
  · refine z_aload (pc := 13) x 4 dX8_join_13 rfl ?_
    refine z_call (pc := 15) (z_canS (pc := 15) (As := [zP a4]) (st := []) x (m_X8_known hl a4) q773 q774 q142 q775 n_X8_known ⟨by omega, by omega⟩ (Nat.le_of_ble_eq_true rfl) dX8_join_15) (zv_R fun v15 => ?_) (fun q => zx_thr x (fun z hz => (htab z hz).elim) q)
    refine z_astore (pc := 18) (lv' := [(5, zP v15), (0, zP a0), (1, zP a1), (2, zI a2), (3, zI a3), (4, zP a4)]) x dX8_join_18 (Nat.le_of_ble_eq_true rfl) rfl ?_
    refine z_aload_n (pc := 20) x 2 dX8_join_20 rfl rfl ?_
    refine z_aload_n (pc := 21) x 1 dX8_join_21 rfl rfl ?_
    refine z_get (pc := 22) (fun _ _ h => zAsR_eq h) x in_X8 (ci := 36) rfl (k := 0) (by decide) q635 (fun _ h => h) dX8_join_22 fun v22 => ?_
    refine z_aload (pc := 25) x 0 dX8_join_25 rfl ?_
    refine z_call (pc := 27) (z_canV (pc := 27) (As := [zP v22, zP v15]) (st := []) x (ci := 31) rfl (fun b => m_X25_holds hl (some b) v22 v15) q779 q780 (x.2.2.2.2.1 _ q781) q164 q782 n_X25_holds ⟨by omega, by omega⟩ (Nat.le_of_ble_eq_true rfl) dX8_join_27) (zv_I fun v27 => ?_) (fun q => zx_thr x (fun z hz => (htab z hz).elim) q)
    refine z_if_eq (pc := 30) (tgt := 40) x dX8_join_30 rfl (fun _ => ?_) (fun _ => ?_)
    · exact z_vret (pc := 40) x hret dX8_join_40
    · refine z_aload_n (pc := 33) x 1 dX8_join_33 rfl rfl ?_
      refine z_aload_n (pc := 34) x 2 dX8_join_34 rfl rfl ?_
      refine z_aload (pc := 35) x 0 dX8_join_35 rfl ?_
      refine z_call (pc := 37) (z_canV (pc := 37) (As := [zP a1, zP v15]) (st := []) x (ci := 36) rfl (fun b => m_X8_found hl (some b) a1 v15) q827 q829 (z_selP x (ci := 36) rfl (by decide) (zNi_inst x q616) q828 q829) q142 q830 n_X8_found ⟨by omega, by omega⟩ (Nat.le_of_ble_eq_true rfl) dX8_join_37) (zv_V ?_) (fun q => zx_thr x (fun z hz => (htab z hz).elim) q)
      exact z_vret (pc := 40) x hret dX8_join_40
  · refine z_aload_n (pc := 41) x 1 dX8_join_41 rfl rfl ?_
    refine z_getN (pc := 42) (fun _ _ h => zAsR_eq h) x in_X25 (ci := 31) rfl (k := 2) (by decide) q2509 (fun _ h => h) dX8_join_42 fun v42 => ?_
    refine z_iload_n (pc := 45) x 2 dX8_join_45 rfl rfl ?_
    refine z_call (pc := 46) (z_canIF (pc := 46) (As := [zI a2]) (st := []) (x9 := ⟨"java/util/List", "get", "(I)Ljava/lang/Object;"⟩) x (ci := 10) rfl (fun b => m_J2_get hl (some b) a2) q843 q845 q844 (by decide) q846 q848 q849 q847 q384 q112 q850 nx_java_util_List_get__I_Ljava_lang_Object_ ⟨by omega, by omega⟩ (Nat.le_of_ble_eq_true rfl) dX8_join_46) (zv_R fun v46 => ?_) (fun q => zx_thr x (fun z hz => (htab z hz).elim) q)
    refine z_csS (pc := 51) x (ci := 37) rfl q861 dX8_join_51 ?_
    refine z_astore (pc := 54) (lv' := [(5, zP v46), (0, zP a0), (1, zP a1), (2, zI a2), (3, zI a3), (4, zP a4)]) x dX8_join_54 (Nat.le_of_ble_eq_true rfl) rfl ?_
    refine z_iload_n (pc := 56) x 3 dX8_join_56 rfl rfl ?_
    refine z_iload_n (pc := 57) x 4 dX8_join_57 rfl rfl ?_
    refine z_icmp_ne (pc := 58) (tgt := 68) x dX8_join_58 rfl (fun _ => ?_) (fun _ => ?_)
    · refine z_aload_n (pc := 61) x 1 dX8_join_61 rfl rfl ?_
      refine z_get (pc := 62) (fun _ _ h => zAsR_eq h) x in_X8 (ci := 36) rfl (k := 1) (by decide) q637 (fun _ h => h) dX8_join_62 fun v62 => ?_
      refine z_goto (pc := 65) (tgt := 72) x dX8_join_65 rfl ?_
      exact z_sub [1, 2, 3, 4, 5, 0] rfl (w_X8_join_72 x hl hret hnm htab hr_X8_join hB_X8_join a0 a1 a2 a3 a4 v46 v62)
    · refine z_aload_n (pc := 68) x 1 dX8_join_68 rfl rfl ?_
      refine z_get (pc := 69) (fun _ _ h => zAsR_eq h) x in_X8 (ci := 36) rfl (k := 0) (by decide) q635 (fun _ h => h) dX8_join_69 fun v69 => ?_
      exact z_sub [1, 2, 3, 4, 5, 0] rfl (w_X8_join_72 x hl hret hnm htab hr_X8_join hB_X8_join a0 a1 a2 a3 a4 v46 v69)
def s_X8_join (E : zE) : Nat → Option Nat → Option Nat → Int32 → Int32 → Option Nat → zM
  | 0, _, _, _, _, _ => zFail
  | n + 1, a0, a1, a2, a3, a4 => s_X8_joinb E (s_X8_join E n) a0 a1 a2 a3 a4
theorem m_X8_join {l : Launch} {E : zE} {D : va_G} {tA : Nat → ClassId} (hl : l.stackTraces = false) : ∀ (n : Nat) (a0 : Option Nat) (a1 : Option Nat) (a2 : Int32) (a3 : Int32) (a4 : Option Nat), zMet l E D tA yX8_join (ws_ yX8_join cX8_join 9 (Option.none : Option Jvm.ClassFile.FieldType)) (60 + 1 * n) (s_X8_join E n a0 a1 a2 a3 a4) [zP a0, zP a1, zI a2, zI a3, zP a4]
  | 0, _, _, _, _, _ => fun h out h2 hf => nomatch hf
  | n + 1, a0, a1, a2, a3, a4 => by
    rw [Nat.mul_succ, ← Nat.add_assoc]
    exact m_X8_joinb hl (m_X8_join hl n) (by omega) a0 a1 a2 a3 a4
/-! X8_goOn -/
def s_X8_goOn_38 (E : zE) (k2 : Option Nat → Int32 → zM) (k10 : Option Nat → Int32 → Int32 → zM) (a0 : Option Nat) (a1 : Int32) (a2 : Int32) : zM := k10 a0 a1 (a2 + (1 : Int32))
theorem w_X8_goOn_38 (x : zCx p l R s m args meth c E D tA cX8_goOn 4 yX8_goOn.cls 12) (hl : l.stackTraces = false) (hret : meth.sig.returnType = (Option.some Jvm.ClassFile.FieldType.boolean)) (hnm : meth.name = yX8_goOn.name) (htab : ∀ z ∈ c.exceptionTable.toList, False) {k2 : Option Nat → Int32 → zM} (h2 : ∀ (a0 : Option Nat) (a1 : Int32) , zW p l e R s m args below meth c E D tA 4 k0 (k2 a0 a1) [(0, zP a0), (1, zI a1)] 2 []) {k10 : Option Nat → Int32 → Int32 → zM} (h10 : ∀ (a0 : Option Nat) (a1 : Int32) (a2 : Int32) , zW p l e R s m args below meth c E D tA 4 k0 (k10 a0 a1 a2) [(0, zP a0), (1, zI a1), (2, zI a2)] 10 []) (a0 : Option Nat) (a1 : Int32) (a2 : Int32) : zW p l e R s m args below meth c E D tA 4 k0 (s_X8_goOn_38 E k2 k10 a0 a1 a2) [(0, zP a0), (1, zI a1), (2, zI a2)] 38 [] := by
  unfold s_X8_goOn_38
  refine z_iinc (pc := 38) (lv' := [(2, zI (a2 + (1 : Int32))), (0, zP a0), (1, zI a1)]) x (v2 := (a2 + (1 : Int32))) 2 dX8_goOn_38 rfl rfl (Nat.le_of_ble_eq_true rfl) rfl ?_
  refine z_goto (pc := 41) (tgt := 10) x dX8_goOn_41 rfl ?_
  exact z_sub [1, 2, 0] rfl (h10 a0 a1 (a2 + (1 : Int32)))
def s_X8_goOn_10 (E : zE) (k2 : Option Nat → Int32 → zM) : Nat → Option Nat → Int32 → Int32 → zM
  | 0, _, _, _ => zFail
  | n + 1, a0, a1, a2 => if (100 : Int32) ≤ a2 then (k2 a0 (a1 + (1 : Int32))) else (zGetR a0 36 2 (fun v17 => zC (zRv v17 [(32, fun b => s_X4_has E (some b) a1 a2)]) zThr (zKI (fun v22 => if v22 = 0 then (s_X8_goOn_38 E k2 (s_X8_goOn_10 E k2 n) a0 a1 a2) else (zGetR a0 36 0 (fun v29 => zC (zRv v29 [(32, fun b => s_X4_add E (some b) a1 a2)]) zThr (zKI (fun v34 => s_X8_goOn_38 E k2 (s_X8_goOn_10 E k2 n) a0 a1 a2))))))))
theorem w_X8_goOn_10 (x : zCx p l R s m args meth c E D tA cX8_goOn 4 yX8_goOn.cls 12) (hl : l.stackTraces = false) (hret : meth.sig.returnType = (Option.some Jvm.ClassFile.FieldType.boolean)) (hnm : meth.name = yX8_goOn.name) (htab : ∀ z ∈ c.exceptionTable.toList, False) {k2 : Option Nat → Int32 → zM} (h2 : ∀ (a0 : Option Nat) (a1 : Int32) , zW p l e R s m args below meth c E D tA 4 k0 (k2 a0 a1) [(0, zP a0), (1, zI a1)] 2 []) : ∀ (n : Nat) (a0 : Option Nat) (a1 : Int32) (a2 : Int32), zW p l e R s m args below meth c E D tA 4 k0 (s_X8_goOn_10 E k2 n a0 a1 a2) [(0, zP a0), (1, zI a1), (2, zI a2)] 10 [] := by
  intro n
  induction n with
  | zero => intro a0 a1 a2; exact z_fail
  | succ n h10 =>
    intro a0 a1 a2
    rw [s_X8_goOn_10]
    refine z_iload_n (pc := 10) x 2 dX8_goOn_10 rfl rfl ?_
    refine z_bipush (pc := 11) x (v := (100 : Int32)) dX8_goOn_11 rfl ?_
    refine z_icmp_ge (pc := 13) (tgt := 44) x dX8_goOn_13 rfl (fun _ => ?_) (fun _ => ?_)
    · refine z_iinc (pc := 44) (lv' := [(1, zI (a1 + (1 : Int32))), (0, zP a0), (2, zI a2)]) x (v2 := (a1 + (1 : Int32))) 1 dX8_goOn_44 rfl rfl (Nat.le_of_ble_eq_true rfl) rfl ?_
      refine z_goto (pc := 47) (tgt := 2) x dX8_goOn_47 rfl ?_
      exact z_sub [1, 0] rfl (h2 a0 (a1 + (1 : Int32)))
    · refine z_aload_n (pc := 16) x 0 dX8_goOn_16 rfl rfl ?_
      refine z_get (pc := 17) (fun _ _ h => zAsR_eq h) x in_X8 (ci := 36) rfl (k := 2) (by decide) q638 (fun _ h => h) dX8_goOn_17 fun v17 => ?_
      refine z_iload_n (pc := 20) x 1 dX8_goOn_20 rfl rfl ?_
      refine z_iload_n (pc := 21) x 2 dX8_goOn_21 rfl rfl ?_
      refine z_call (pc := 22) (z_canV (pc := 22) (As := [zI a1, zI a2]) (st := []) x (ci := 32) rfl (fun b => m_X4_has hl (some b) a1 a2) q832 q814 (x.2.2.2.2.1 _ q815) q114 q816 n_X4_has ⟨by decide, by decide⟩ (Nat.le_of_ble_eq_true rfl) dX8_goOn_22) (zv_I fun v22 => ?_) (fun q => zx_thr x (fun z hz => (htab z hz).elim) q)
      refine z_if_eq (pc := 25) (tgt := 38) x dX8_goOn_25 rfl (fun _ => ?_) (fun _ => ?_)
      · exact z_sub [0, 1, 2] rfl (w_X8_goOn_38 x hl hret hnm htab h2 h10 a0 a1 a2)
      · refine z_aload_n (pc := 28) x 0 dX8_goOn_28 rfl rfl ?_
        refine z_get (pc := 29) (fun _ _ h => zAsR_eq h) x in_X8 (ci := 36) rfl (k := 0) (by decide) q635 (fun _ h => h) dX8_goOn_29 fun v29 => ?_
        refine z_iload_n (pc := 32) x 1 dX8_goOn_32 rfl rfl ?_
        refine z_iload_n (pc := 33) x 2 dX8_goOn_33 rfl rfl ?_
        refine z_call (pc := 34) (z_canV (pc := 34) (As := [zI a1, zI a2]) (st := []) x (ci := 32) rfl (fun b => m_X4_add hl (some b) a1 a2) q833 q834 (x.2.2.2.2.1 _ q835) q114 q836 n_X4_add ⟨by decide, by decide⟩ (Nat.le_of_ble_eq_true rfl) dX8_goOn_34) (zv_I fun v34 => ?_) (fun q => zx_thr x (fun z hz => (htab z hz).elim) q)
        refine z_istore_n (pc := 37) (lv' := [(3, zI v34), (0, zP a0), (1, zI a1), (2, zI a2)]) x dX8_goOn_37 rfl (Nat.le_of_ble_eq_true rfl) rfl ?_
        exact z_sub [1, 2, 3] rfl (w_X8_goOn_38 x hl hret hnm htab h2 h10 a0 a1 a2)
def s_X8_goOn_2 (E : zE) : Nat → Option Nat → Int32 → zM
  | 0, _, _ => zFail
  | n + 1, a0, a1 => if (8 : Int32) ≤ a1 then (zGetR a0 36 2 (fun v52 => zSet E a0 36 1 (zVal (zP v52)) (zNew 32 1 [.null] (fun v59 => zC (zSp v59 (fun b => s_X4_init E (some b))) zThr (zKV (zSet E a0 36 2 (zVal (zP v59)) (zGetR a0 36 1 (fun v70 => zC (zRv v70 [(32, fun b => s_X4_count E (some b))]) zThr (zKI (fun v73 => if v73 ≤ 0 then (zRetN .boolean (0 : Int32)) else (zRetN .boolean (1 : Int32)))))))))))) else (s_X8_goOn_10 E (s_X8_goOn_2 E n) zN a0 a1 (0 : Int32))
theorem w_X8_goOn_2 (x : zCx p l R s m args meth c E D tA cX8_goOn 4 yX8_goOn.cls 12) (hl : l.stackTraces = false) (hret : meth.sig.returnType = (Option.some Jvm.ClassFile.FieldType.boolean)) (hnm : meth.name = yX8_goOn.name) (htab : ∀ z ∈ c.exceptionTable.toList, False) : ∀ (n : Nat) (a0 : Option Nat) (a1 : Int32), zW p l e R s m args below meth c E D tA 4 k0 (s_X8_goOn_2 E n a0 a1) [(0, zP a0), (1, zI a1)] 2 [] := by
  intro n
  induction n with
  | zero => intro a0 a1; exact z_fail
  | succ n h2 =>
    intro a0 a1
    rw [s_X8_goOn_2]
    refine z_iload_n (pc := 2) x 1 dX8_goOn_2 rfl rfl ?_
    refine z_bipush (pc := 3) x (v := (8 : Int32)) dX8_goOn_3 rfl ?_
    refine z_icmp_ge (pc := 5) (tgt := 50) x dX8_goOn_5 rfl (fun _ => ?_) (fun _ => ?_)
    · refine z_aload_n (pc := 50) x 0 dX8_goOn_50 rfl rfl ?_
      refine z_aload_n (pc := 51) x 0 dX8_goOn_51 rfl rfl ?_
      refine z_get (pc := 52) (fun _ _ h => zAsR_eq h) x in_X8 (ci := 36) rfl (k := 2) (by decide) q638 (fun _ h => h) dX8_goOn_52 fun v52 => ?_
      refine z_set (pc := 55) (v := zP v52) x in_X8 tyX8 tyX8_ok nmX8 (ci := 36) rfl (k := 1) (by decide) q637 (fun _ h => h) rfl (zfitR rfl _).1 (zfitR rfl _).2 dX8_goOn_55 ?_
      refine z_aload_n (pc := 58) x 0 dX8_goOn_58 rfl rfl ?_
      refine z_new (pc := 59) x in_X4 tyX4 tyX4_ok q621 q224 q114 (ci := 32) rfl (by decide) (by decide +kernel) dX8_goOn_59 fun v59 => ?_
      refine z_dup (pc := 62) x dX8_goOn_62 rfl ?_
      refine z_call (pc := 63) (z_canI (pc := 63) (ret := none) (As := []) (st := [zP v59, zP a0]) x (fun b => m_X4_init hl (some b)) q749 rfl q226 q114 q227 n_X4_init ⟨by decide, by decide⟩ (Nat.le_of_ble_eq_true rfl) dX8_goOn_63) (zv_V ?_) (fun q => zx_thr x (fun z hz => (htab z hz).elim) q)
      refine z_set (pc := 66) (v := zP v59) x in_X8 tyX8 tyX8_ok nmX8 (ci := 36) rfl (k := 2) (by decide) q638 (fun _ h => h) rfl (zfitR rfl _).1 (zfitR rfl _).2 dX8_goOn_66 ?_
      refine z_aload_n (pc := 69) x 0 dX8_goOn_69 rfl rfl ?_
      refine z_get (pc := 70) (fun _ _ h => zAsR_eq h) x in_X8 (ci := 36) rfl (k := 1) (by decide) q637 (fun _ h => h) dX8_goOn_70 fun v70 => ?_
      refine z_call (pc := 73) (z_canV (pc := 73) (As := []) (st := []) x (ci := 32) rfl (fun b => m_X4_count hl (some b)) q874 q351 (x.2.2.2.2.1 _ q352) q114 q353 n_X4_count ⟨by decide, by decide⟩ (Nat.le_of_ble_eq_true rfl) dX8_goOn_73) (zv_I fun v73 => ?_) (fun q => zx_thr x (fun z hz => (htab z hz).elim) q)
      refine z_if_le (pc := 76) (tgt := 83) x dX8_goOn_76 rfl (fun _ => ?_) (fun _ => ?_)
      · refine z_iconst (pc := 83) x (v := (0 : Int32)) dX8_goOn_83 rfl ?_
        exact z_zret (pc := 84) x hret dX8_goOn_84
      · refine z_iconst (pc := 79) x (v := (1 : Int32)) dX8_goOn_79 rfl ?_
        refine z_goto (pc := 80) (tgt := 84) x dX8_goOn_80 rfl ?_
        exact z_zret (pc := 84) x hret dX8_goOn_84
    · refine z_iconst (pc := 8) x (v := (0 : Int32)) dX8_goOn_8 rfl ?_
      refine z_istore_n (pc := 9) (lv' := [(2, zI (0 : Int32)), (0, zP a0), (1, zI a1)]) x dX8_goOn_9 rfl (Nat.le_of_ble_eq_true rfl) rfl ?_
      exact z_sub [1, 2, 0] rfl (w_X8_goOn_10 x hl hret hnm htab h2 zN a0 a1 (0 : Int32))
def s_X8_goOn (E : zE) (a0 : Option Nat) : zM := s_X8_goOn_2 E zN a0 (0 : Int32)
theorem m_X8_goOn {l : Launch} {E : zE} {D : va_G} {tA : Nat → ClassId} (hl : l.stackTraces = false) (a0 : Option Nat) : zMet l E D tA yX8_goOn (ws_ yX8_goOn cX8_goOn 4 (Option.some Jvm.ClassFile.FieldType.boolean)) 12 (s_X8_goOn E a0) [zP a0] := by
  refine z_met hl (by decide +kernel) (by rw [zSl_len]; exact (Nat.le_of_ble_eq_true rfl)) fun p e R s m args below meth c k0 x hret hnm htab => ?_
  refine z_lv [(0, zP a0)] rfl ?_
  unfold s_X8_goOn
  refine z_iconst (pc := 0) x (v := (0 : Int32)) dX8_goOn_0 rfl ?_
  refine z_istore_n (pc := 1) (lv' := [(1, zI (0 : Int32)), (0, zP a0)]) x dX8_goOn_1 rfl (Nat.le_of_ble_eq_true rfl) rfl ?_
  exact z_sub [1, 0] rfl (w_X8_goOn_2 x hl hret hnm htab zN a0 (0 : Int32))
/-! X8_close -/
def s_X8_close_86 (E : zE) (k50 : Option Nat → Option Nat → zM) (k64 : Option Nat → Option Nat → Option Nat → zM) : Nat → Option Nat → Option Nat → Option Nat → Option Nat → Int32 → zM
  | 0, _, _, _, _, _ => zFail
  | n + 1, a0, a1, a2, a3, a4 => zGetR a3 31 2 (fun v89 => zC (zRv v89 [(10, fun b => s_J2_size E (some b))]) zThr (zKI (fun v92 => if v92 ≤ a4 then (k64 a0 a1 a2) else (zC (s_X8_unknown E) zThr (zKR (fun v105 => zC (zRv a0 [(36, fun b => s_X8_join E 10 (some b) a3 (0 : Int32) a4 v105)]) zThr (zKV ((s_X8_close_86 E k50 k64 n) a0 a1 a2 a3 (a4 + (1 : Int32))))))))))
theorem w_X8_close_86 (x : zCx p l R s m args meth c E D tA cX8_close 5 yX8_close.cls 71) (hl : l.stackTraces = false) (hret : meth.sig.returnType = (Option.none : Option Jvm.ClassFile.FieldType)) (hnm : meth.name = yX8_close.name) (htab : ∀ z ∈ c.exceptionTable.toList, False) {k50 : Option Nat → Option Nat → zM} (h50 : ∀ (a0 : Option Nat) (a1 : Option Nat) , zW p l e R s m args below meth c E D tA 5 k0 (k50 a0 a1) [(0, zP a0), (1, zP a1)] 50 []) {k64 : Option Nat → Option Nat → Option Nat → zM} (h64 : ∀ (a0 : Option Nat) (a1 : Option Nat) (a2 : Option Nat) , zW p l e R s m args below meth c E D tA 5 k0 (k64 a0 a1 a2) [(0, zP a0), (1, zP a1), (2, zP a2)] 64 []) : ∀ (n : Nat) (a0 : Option Nat) (a1 : Option Nat) (a2 : Option Nat) (a3 : Option Nat) (a4 : Int32), zW p l e R s m args below meth c E D tA 5 k0 (s_X8_close_86 E k50 k64 n a0 a1 a2 a3 a4) [(0, zP a0), (1, zP a1), (2, zP a2), (3, zP a3), (4, zI a4)] 86 [] := by
  intro n
  induction n with
  | zero => intro a0 a1 a2 a3 a4; exact z_fail
  | succ n h86 =>
    intro a0 a1 a2 a3 a4
    rw [s_X8_close_86]
    refine z_iload (pc := 86) x 4 dX8_close_86 rfl ?_
    refine z_aload_n (pc := 88) x 3 dX8_close_88 rfl rfl ?_
    refine z_getN (pc := 89) (fun _ _ h => zAsR_eq h) x in_X25 (ci := 31) rfl (k := 2) (by decide) q2509 (fun _ h => h) dX8_close_89 fun v89 => ?_
    refine z_call (pc := 92) (z_canIF (pc := 92) (As := []) (st := [zI a4]) (x9 := ⟨"java/util/List", "size", "()I"⟩) x (ci := 10) rfl (fun b => m_J2_size hl (some b)) q765 q767 q766 (by decide) q768 q770 q771 q769 q384 q112 q772 nx_java_util_List_size___I ⟨by decide, by decide⟩ (Nat.le_of_ble_eq_true rfl) dX8_close_92) (zv_I fun v92 => ?_) (fun q => zx_thr x (fun z hz => (htab z hz).elim) q)
    refine z_icmp_ge (pc := 97) (tgt := 117) x dX8_close_97 rfl (fun _ => ?_) (fun _ => ?_)
    · refine z_goto (pc := 117) (tgt := 64) x dX8_close_117 rfl ?_
      exact z_sub [0, 1, 2] rfl (h64 a0 a1 a2)
    · refine z_aload_n (pc := 100) x 0 dX8_close_100 rfl rfl ?_
      refine z_aload_n (pc := 101) x 3 dX8_close_101 rfl rfl ?_
      refine z_iconst (pc := 102) x (v := (0 : Int32)) dX8_close_102 rfl ?_
      refine z_iload (pc := 103) x 4 dX8_close_103 rfl ?_
      refine z_call (pc := 105) (z_canS (pc := 105) (As := []) (st := [zI a4, zI (0 : Int32), zP a3, zP a0]) x (m_X8_unknown hl) q757 q758 q142 q759 n_X8_unknown ⟨by decide, by decide⟩ (Nat.le_of_ble_eq_true rfl) dX8_close_105) (zv_R fun v105 => ?_) (fun q => zx_thr x (fun z hz => (htab z hz).elim) q)
      refine z_call (pc := 108) (z_canV (pc := 108) (As := [zP a3, zI (0 : Int32), zI a4, zP v105]) (st := []) x (ci := 36) rfl (fun b => m_X8_join hl 10 (some b) a3 (0 : Int32) a4 v105) q760 q762 (z_selP x (ci := 36) rfl (by decide) (zNi_inst x q616) q761 q762) q142 q763 n_X8_join ⟨by omega, by omega⟩ (Nat.le_of_ble_eq_true rfl) dX8_close_108) (zv_V ?_) (fun q => zx_thr x (fun z hz => (htab z hz).elim) q)
      refine z_iinc (pc := 111) (lv' := [(4, zI (a4 + (1 : Int32))), (0, zP a0), (1, zP a1), (2, zP a2), (3, zP a3)]) x (v2 := (a4 + (1 : Int32))) 4 dX8_close_111 rfl rfl (Nat.le_of_ble_eq_true rfl) rfl ?_
      refine z_goto (pc := 114) (tgt := 86) x dX8_close_114 rfl ?_
      exact z_sub [1, 2, 3, 4, 0] rfl (h86 a0 a1 a2 a3 (a4 + (1 : Int32)))
def s_X8_close_64 (E : zE) (k50 : Option Nat → Option Nat → zM) : Nat → Option Nat → Option Nat → Option Nat → zM
  | 0, _, _, _ => zFail
  | n + 1, a0, a1, a2 => zC (zRv a2 [(11, fun b => s_J22_hasNext E (some b))]) zThr (zKI (fun v65 => if v65 = 0 then (k50 a0 a1) else (zC (zRv a2 [(11, fun b => s_J22_next E (some b))]) zThr (zKR (fun v74 => zCsS 31 v74 (s_X8_close_86 E k50 (s_X8_close_64 E k50 n) zN a0 a1 a2 v74 (0 : Int32)))))))
theorem w_X8_close_64 (x : zCx p l R s m args meth c E D tA cX8_close 5 yX8_close.cls 71) (hl : l.stackTraces = false) (hret : meth.sig.returnType = (Option.none : Option Jvm.ClassFile.FieldType)) (hnm : meth.name = yX8_close.name) (htab : ∀ z ∈ c.exceptionTable.toList, False) {k50 : Option Nat → Option Nat → zM} (h50 : ∀ (a0 : Option Nat) (a1 : Option Nat) , zW p l e R s m args below meth c E D tA 5 k0 (k50 a0 a1) [(0, zP a0), (1, zP a1)] 50 []) : ∀ (n : Nat) (a0 : Option Nat) (a1 : Option Nat) (a2 : Option Nat), zW p l e R s m args below meth c E D tA 5 k0 (s_X8_close_64 E k50 n a0 a1 a2) [(0, zP a0), (1, zP a1), (2, zP a2)] 64 [] := by
  intro n
  induction n with
  | zero => intro a0 a1 a2; exact z_fail
  | succ n h64 =>
    intro a0 a1 a2
    rw [s_X8_close_64]
    refine z_aload_n (pc := 64) x 2 dX8_close_64 rfl rfl ?_
    refine z_call (pc := 65) (z_canIF (pc := 65) (As := []) (st := []) (x9 := ⟨"java/util/Iterator", "hasNext", "()Z"⟩) x (ci := 11) rfl (fun b => m_J22_hasNext hl (some b)) q753 q413 q412 (by decide) q415 q417 q418 q416 q414 q139 q419 nx_java_util_Iterator_hasNext___Z ⟨by decide, by decide⟩ (Nat.le_of_ble_eq_true rfl) dX8_close_65) (zv_I fun v65 => ?_) (fun q => zx_thr x (fun z hz => (htab z hz).elim) q)
    refine z_if_eq (pc := 70) (tgt := 120) x dX8_close_70 rfl (fun _ => ?_) (fun _ => ?_)
    · refine z_goto (pc := 120) (tgt := 50) x dX8_close_120 rfl ?_
      exact z_sub [0, 1] rfl (h50 a0 a1)
    · refine z_aload_n (pc := 73) x 2 dX8_close_73 rfl rfl ?_
      refine z_call (pc := 74) (z_canIF (pc := 74) (As := []) (st := []) (x9 := ⟨"java/util/Iterator", "next", "()Ljava/lang/Object;"⟩) x (ci := 11) rfl (fun b => m_J22_next hl (some b)) q755 q423 q422 (by decide) q424 q426 q427 q425 q414 q139 q428 nx_java_util_Iterator_next___Ljava_lang_Object_ ⟨by decide, by decide⟩ (Nat.le_of_ble_eq_true rfl) dX8_close_74) (zv_R fun v74 => ?_) (fun q => zx_thr x (fun z hz => (htab z hz).elim) q)
      refine z_csS (pc := 79) x (ci := 31) rfl q756 dX8_close_79 ?_
      refine z_astore_n (pc := 82) (lv' := [(3, zP v74), (0, zP a0), (1, zP a1), (2, zP a2)]) x dX8_close_82 rfl (Nat.le_of_ble_eq_true rfl) rfl ?_
      refine z_iconst (pc := 83) x (v := (0 : Int32)) dX8_close_83 rfl ?_
      refine z_istore (pc := 84) (lv' := [(4, zI (0 : Int32)), (3, zP v74), (0, zP a0), (1, zP a1), (2, zP a2)]) x dX8_close_84 (Nat.le_of_ble_eq_true rfl) rfl ?_
      exact z_sub [2, 3, 4, 1, 0] rfl (w_X8_close_86 x hl hret hnm htab h50 h64 zN a0 a1 a2 v74 (0 : Int32))
def s_X8_close_50 (E : zE) : Nat → Option Nat → Option Nat → zM
  | 0, _, _ => zFail
  | n + 1, a0, a1 => zC (zRv a0 [(36, fun b => s_X8_goOn E (some b))]) zThr (zKI (fun v51 => if v51 = 0 then (zRet none) else (zC (zRv a1 [(10, fun b => s_J2_iterator E (some b))]) zThr (zKR (fun v58 => s_X8_close_64 E (s_X8_close_50 E n) zN a0 a1 v58)))))
theorem w_X8_close_50 (x : zCx p l R s m args meth c E D tA cX8_close 5 yX8_close.cls 71) (hl : l.stackTraces = false) (hret : meth.sig.returnType = (Option.none : Option Jvm.ClassFile.FieldType)) (hnm : meth.name = yX8_close.name) (htab : ∀ z ∈ c.exceptionTable.toList, False) : ∀ (n : Nat) (a0 : Option Nat) (a1 : Option Nat), zW p l e R s m args below meth c E D tA 5 k0 (s_X8_close_50 E n a0 a1) [(0, zP a0), (1, zP a1)] 50 [] := by
  intro n
  induction n with
  | zero => intro a0 a1; exact z_fail
  | succ n h50 =>
    intro a0 a1
    rw [s_X8_close_50]
    refine z_aload_n (pc := 50) x 0 dX8_close_50 rfl rfl ?_
    refine z_call (pc := 51) (z_canV (pc := 51) (As := []) (st := []) x (ci := 36) rfl (fun b => m_X8_goOn hl (some b)) q870 q872 (z_selP x (ci := 36) rfl (by decide) (zNi_inst x q616) q871 q872) q142 q873 n_X8_goOn ⟨by decide, by decide⟩ (Nat.le_of_ble_eq_true rfl) dX8_close_51) (zv_I fun v51 => ?_) (fun q => zx_thr x (fun z hz => (htab z hz).elim) q)
    refine z_if_eq (pc := 54) (tgt := 123) x dX8_close_54 rfl (fun _ => ?_) (fun _ => ?_)
    · exact z_vret (pc := 123) x hret dX8_close_123
    · refine z_aload_n (pc := 57) x 1 dX8_close_57 rfl rfl ?_
      refine z_call (pc := 58) (z_canIF (pc := 58) (As := []) (st := []) (x9 := ⟨"java/util/List", "iterator", "()Ljava/util/Iterator;"⟩) x (ci := 10) rfl (fun b => m_J2_iterator hl (some b)) q751 q383 q382 (by decide) q385 q387 q388 q386 q384 q112 q389 nx_java_util_List_iterator___Ljava_util_Iterator_ ⟨by decide, by decide⟩ (Nat.le_of_ble_eq_true rfl) dX8_close_58) (zv_R fun v58 => ?_) (fun q => zx_thr x (fun z hz => (htab z hz).elim) q)
      refine z_astore_n (pc := 63) (lv' := [(2, zP v58), (0, zP a0), (1, zP a1)]) x dX8_close_63 rfl (Nat.le_of_ble_eq_true rfl) rfl ?_
      exact z_sub [1, 2, 0] rfl (w_X8_close_64 x hl hret hnm htab h50 zN a0 a1 v58)
def s_X8_close_18 (E : zE) : Nat → Option Nat → Option Nat → Option Nat → zM
  | 0, _, _, _ => zFail
  | n + 1, a0, a1, a2 => zC (zRv a2 [(11, fun b => s_J22_hasNext E (some b))]) zThr (zKI (fun v19 => if v19 = 0 then (s_X8_close_50 E zN a0 a1) else (zC (zRv a2 [(11, fun b => s_J22_next E (some b))]) zThr (zKR (fun v28 => zCsS 31 v28 (zC (s_X8_unknown E) zThr (zKR (fun v41 => zC (zRv a0 [(36, fun b => s_X8_join E 10 (some b) v28 (0 : Int32) (-1 : Int32) v41)]) zThr (zKV ((s_X8_close_18 E n) a0 a1 a2))))))))))
theorem w_X8_close_18 (x : zCx p l R s m args meth c E D tA cX8_close 5 yX8_close.cls 71) (hl : l.stackTraces = false) (hret : meth.sig.returnType = (Option.none : Option Jvm.ClassFile.FieldType)) (hnm : meth.name = yX8_close.name) (htab : ∀ z ∈ c.exceptionTable.toList, False) : ∀ (n : Nat) (a0 : Option Nat) (a1 : Option Nat) (a2 : Option Nat), zW p l e R s m args below meth c E D tA 5 k0 (s_X8_close_18 E n a0 a1 a2) [(0, zP a0), (1, zP a1), (2, zP a2)] 18 [] := by
  intro n
  induction n with
  | zero => intro a0 a1 a2; exact z_fail
  | succ n h18 =>
    intro a0 a1 a2
    rw [s_X8_close_18]
    refine z_aload_n (pc := 18) x 2 dX8_close_18 rfl rfl ?_
    refine z_call (pc := 19) (z_canIF (pc := 19) (As := []) (st := []) (x9 := ⟨"java/util/Iterator", "hasNext", "()Z"⟩) x (ci := 11) rfl (fun b => m_J22_hasNext hl (some b)) q753 q413 q412 (by decide) q415 q417 q418 q416 q414 q139 q419 nx_java_util_Iterator_hasNext___Z ⟨by decide, by decide⟩ (Nat.le_of_ble_eq_true rfl) dX8_close_19) (zv_I fun v19 => ?_) (fun q => zx_thr x (fun z hz => (htab z hz).elim) q)
    refine z_if_eq (pc := 24) (tgt := 50) x dX8_close_24 rfl (fun _ => ?_) (fun _ => ?_)
    · exact z_sub [0, 1] rfl (w_X8_close_50 x hl hret hnm htab zN a0 a1)
    · refine z_aload_n (pc := 27) x 2 dX8_close_27 rfl rfl ?_
      refine z_call (pc := 28) (z_canIF (pc := 28) (As := []) (st := []) (x9 := ⟨"java/util/Iterator", "next", "()Ljava/lang/Object;"⟩) x (ci := 11) rfl (fun b => m_J22_next hl (some b)) q755 q423 q422 (by decide) q424 q426 q427 q425 q414 q139 q428 nx_java_util_Iterator_next___Ljava_lang_Object_ ⟨by decide, by decide⟩ (Nat.le_of_ble_eq_true rfl) dX8_close_28) (zv_R fun v28 => ?_) (fun q => zx_thr x (fun z hz => (htab z hz).elim) q)
      refine z_csS (pc := 33) x (ci := 31) rfl q756 dX8_close_33 ?_
      refine z_astore_n (pc := 36) (lv' := [(3, zP v28), (0, zP a0), (1, zP a1), (2, zP a2)]) x dX8_close_36 rfl (Nat.le_of_ble_eq_true rfl) rfl ?_
      refine z_aload_n (pc := 37) x 1 dX8_close_37 rfl rfl ?_
      refine z_aload_n (pc := 38) x 0 dX8_close_38 rfl rfl ?_
      refine z_iconst (pc := 39) x (v := (0 : Int32)) dX8_close_39 rfl ?_
      refine z_iconst (pc := 40) x (v := (-1 : Int32)) dX8_close_40 rfl ?_
      refine z_call (pc := 41) (z_canS (pc := 41) (As := []) (st := [zI (-1 : Int32), zI (0 : Int32), zP v28, zP a0]) x (m_X8_unknown hl) q757 q758 q142 q759 n_X8_unknown ⟨by decide, by decide⟩ (Nat.le_of_ble_eq_true rfl) dX8_close_41) (zv_R fun v41 => ?_) (fun q => zx_thr x (fun z hz => (htab z hz).elim) q)
      refine z_call (pc := 44) (z_canV (pc := 44) (As := [zP v28, zI (0 : Int32), zI (-1 : Int32), zP v41]) (st := []) x (ci := 36) rfl (fun b => m_X8_join hl 10 (some b) v28 (0 : Int32) (-1 : Int32) v41) q760 q762 (z_selP x (ci := 36) rfl (by decide) (zNi_inst x q616) q761 q762) q142 q763 n_X8_join ⟨by omega, by omega⟩ (Nat.le_of_ble_eq_true rfl) dX8_close_44) (zv_V ?_) (fun q => zx_thr x (fun z hz => (htab z hz).elim) q)
      refine z_goto (pc := 47) (tgt := 18) x dX8_close_47 rfl ?_
      exact z_sub [1, 2, 3] rfl (h18 a0 a1 a2)
def s_X8_close (E : zE) (a0 : Option Nat) (a1 : Option Nat) : zM := zNew 32 1 [.null] (fun v1 => zC (zSp v1 (fun b => s_X4_init E (some b))) zThr (zKV (zSet E a0 36 2 (zVal (zP v1)) (zC (zRv a1 [(10, fun b => s_J2_iterator E (some b))]) zThr (zKR (fun v12 => s_X8_close_18 E zN a0 a1 v12))))))
theorem m_X8_close {l : Launch} {E : zE} {D : va_G} {tA : Nat → ClassId} (hl : l.stackTraces = false) (a0 : Option Nat) (a1 : Option Nat) : zMet l E D tA yX8_close (ws_ yX8_close cX8_close 5 (Option.none : Option Jvm.ClassFile.FieldType)) 71 (s_X8_close E a0 a1) [zP a0, zP a1] := by
  refine z_met hl (by decide +kernel) (by rw [zSl_len]; exact (Nat.le_of_ble_eq_true rfl)) fun p e R s m args below meth c k0 x hret hnm htab => ?_
  refine z_lv [(0, zP a0), (1, zP a1)] rfl ?_
  unfold s_X8_close
  refine z_aload_n (pc := 0) x 0 dX8_close_0 rfl rfl ?_
  refine z_new (pc := 1) x in_X4 tyX4 tyX4_ok q621 q224 q114 (ci := 32) rfl (by decide) (by decide +kernel) dX8_close_1 fun v1 => ?_
  refine z_dup (pc := 4) x dX8_close_4 rfl ?_
  refine z_call (pc := 5) (z_canI (pc := 5) (ret := none) (As := []) (st := [zP v1, zP a0]) x (fun b => m_X4_init hl (some b)) q749 rfl q226 q114 q227 n_X4_init ⟨by decide, by decide⟩ (Nat.le_of_ble_eq_true rfl) dX8_close_5) (zv_V ?_) (fun q => zx_thr x (fun z hz => (htab z hz).elim) q)
  refine z_set (pc := 8) (v := zP v1) x in_X8 tyX8 tyX8_ok nmX8 (ci := 36) rfl (k := 2) (by decide) q638 (fun _ h => h) rfl (zfitR rfl _).1 (zfitR rfl _).2 dX8_close_8 ?_
  refine z_aload_n (pc := 11) x 1 dX8_close_11 rfl rfl ?_
  refine z_call (pc := 12) (z_canIF (pc := 12) (As := []) (st := []) (x9 := ⟨"java/util/List", "iterator", "()Ljava/util/Iterator;"⟩) x (ci := 10) rfl (fun b => m_J2_iterator hl (some b)) q751 q383 q382 (by decide) q385 q387 q388 q386 q384 q112 q389 nx_java_util_List_iterator___Ljava_util_Iterator_ ⟨by decide, by decide⟩ (Nat.le_of_ble_eq_true rfl) dX8_close_12) (zv_R fun v12 => ?_) (fun q => zx_thr x (fun z hz => (htab z hz).elim) q)
  refine z_astore_n (pc := 17) (lv' := [(2, zP v12), (0, zP a0), (1, zP a1)]) x dX8_close_17 rfl (Nat.le_of_ble_eq_true rfl) rfl ?_
  exact z_sub [1, 2, 0] rfl (w_X8_close_18 x hl hret hnm htab zN a0 a1 v12)
/-! X2_facts -/
def s_X2_facts_66 (E : zE) (a0 : Option Nat) : zM := zGetR a0 26 3 (fun v67 => zRet (some (va_rf v67)))
theorem w_X2_facts_66 (x : zCx p l R s m args meth c E D tA cX2_facts 4 yX2_facts.cls 72) (hl : l.stackTraces = false) (hret : meth.sig.returnType = (Option.some (Jvm.ClassFile.FieldType.object "BrambleLogic$Facts"))) (hnm : meth.name = yX2_facts.name) (htab : ∀ z ∈ c.exceptionTable.toList, False) (a0 : Option Nat) : zW p l e R s m args below meth c E D tA 4 k0 (s_X2_facts_66 E a0) [(0, zP a0)] 66 [] := by
  unfold s_X2_facts_66
  refine z_aload_n (pc := 66) x 0 dX2_facts_66 rfl rfl ?_
  refine z_get (pc := 67) (fun _ _ h => zAsR_eq h) x in_X2 (ci := 26) rfl (k := 3) (by decide) q258 (fun _ h => h) dX2_facts_67 fun v67 => ?_
  exact z_aret (pc := 70) x hret (Or.inl ⟨_, rfl⟩) dX2_facts_70
def s_X2_facts_36 (E : zE) : Nat → Option Nat → Option Nat → Option Nat → Int32 → zM
  | 0, _, _, _, _ => zFail
  | n + 1, a0, a1, a2, a3 => if (8 : Int32) ≤ a3 then (zGetR a2 36 0 (fun v60 => zSet E a0 26 3 (zVal (zP v60)) (s_X2_facts_66 E a0))) else (zC (zRv a0 [(26, fun b => s_X2_rulesOf E (some b) a3 a1)]) zThr (zKR (fun v46 => zC (zRv a2 [(36, fun b => s_X8_close E (some b) v46)]) zThr (zKV ((s_X2_facts_36 E n) a0 a1 a2 (a3 + (1 : Int32)))))))
theorem w_X2_facts_36 (x : zCx p l R s m args meth c E D tA cX2_facts 4 yX2_facts.cls 72) (hl : l.stackTraces = false) (hret : meth.sig.returnType = (Option.some (Jvm.ClassFile.FieldType.object "BrambleLogic$Facts"))) (hnm : meth.name = yX2_facts.name) (htab : ∀ z ∈ c.exceptionTable.toList, False) : ∀ (n : Nat) (a0 : Option Nat) (a1 : Option Nat) (a2 : Option Nat) (a3 : Int32), zW p l e R s m args below meth c E D tA 4 k0 (s_X2_facts_36 E n a0 a1 a2 a3) [(0, zP a0), (1, zP a1), (2, zP a2), (3, zI a3)] 36 [] := by
  intro n
  induction n with
  | zero => intro a0 a1 a2 a3; exact z_fail
  | succ n h36 =>
    intro a0 a1 a2 a3
    rw [s_X2_facts_36]
    refine z_iload_n (pc := 36) x 3 dX2_facts_36 rfl rfl ?_
    refine z_bipush (pc := 37) x (v := (8 : Int32)) dX2_facts_37 rfl ?_
    refine z_icmp_ge (pc := 39) (tgt := 58) x dX2_facts_39 rfl (fun _ => ?_) (fun _ => ?_)
    · refine z_aload_n (pc := 58) x 0 dX2_facts_58 rfl rfl ?_
      refine z_aload_n (pc := 59) x 2 dX2_facts_59 rfl rfl ?_
      refine z_getN (pc := 60) (fun _ _ h => zAsR_eq h) x in_X8 (ci := 36) rfl (k := 0) (by decide) q636 (fun _ h => h) dX2_facts_60 fun v60 => ?_
      refine z_set (pc := 63) (v := zP v60) x in_X2 tyX2 tyX2_ok nmX2 (ci := 26) rfl (k := 3) (by decide) q258 (fun _ h => h) rfl (zfitR rfl _).1 (zfitR rfl _).2 dX2_facts_63 ?_
      exact z_sub [0] rfl (w_X2_facts_66 x hl hret hnm htab a0)
    · refine z_aload_n (pc := 42) x 2 dX2_facts_42 rfl rfl ?_
      refine z_aload_n (pc := 43) x 0 dX2_facts_43 rfl rfl ?_
      refine z_iload_n (pc := 44) x 3 dX2_facts_44 rfl rfl ?_
      refine z_aload_n (pc := 45) x 1 dX2_facts_45 rfl rfl ?_
      refine z_call (pc := 46) (z_canV (pc := 46) (As := [zI a3, zP a1]) (st := [zP a2]) x (ci := 26) rfl (fun b => m_X2_rulesOf hl (some b) a3 a1) q646 q648 (z_selP x (ci := 26) rfl (by decide) (zNi_inst x q176) q647 q648) q109 q649 n_X2_rulesOf ⟨by decide, by decide⟩ (Nat.le_of_ble_eq_true rfl) dX2_facts_46) (zv_R fun v46 => ?_) (fun q => zx_thr x (fun z hz => (htab z hz).elim) q)
      refine z_call (pc := 49) (z_canV (pc := 49) (As := [zP v46]) (st := []) x (ci := 36) rfl (fun b => m_X8_close hl (some b) v46) q745 q746 (x.2.2.2.2.1 _ q747) q142 q748 n_X8_close ⟨by decide, by decide⟩ (Nat.le_of_ble_eq_true rfl) dX2_facts_49) (zv_V ?_) (fun q => zx_thr x (fun z hz => (htab z hz).elim) q)
      refine z_iinc (pc := 52) (lv' := [(3, zI (a3 + (1 : Int32))), (0, zP a0), (1, zP a1), (2, zP a2)]) x (v2 := (a3 + (1 : Int32))) 3 dX2_facts_52 rfl rfl (Nat.le_of_ble_eq_true rfl) rfl ?_
      refine z_goto (pc := 55) (tgt := 36) x dX2_facts_55 rfl ?_
      exact z_sub [1, 2, 3, 0] rfl (h36 a0 a1 a2 (a3 + (1 : Int32)))
def s_X2_facts (E : zE) (a0 : Option Nat) : zM := zGetR a0 26 3 (fun v1 => if v1 = none then (zNew 35 2 [.null, .null] (fun v7 => zGetR a0 26 1 (fun v12 => zC (zSp v7 (fun b => s_X7_init E (some b) v12)) zThr (zKV (zC (zRv v7 [(35, fun b => s_X7_layers E (some b))]) zThr (zKR (fun v18 => zNew 36 3 [.null, .null, .null] (fun v22 => zGetR a0 26 0 (fun v27 => zC (zSp v22 (fun b => s_X8_init E (some b) v27)) zThr (zKV (s_X2_facts_36 E zN a0 v18 v22 (0 : Int32)))))))))))) else (s_X2_facts_66 E a0))
theorem m_X2_facts {l : Launch} {E : zE} {D : va_G} {tA : Nat → ClassId} (hl : l.stackTraces = false) (a0 : Option Nat) : zMet l E D tA yX2_facts (ws_ yX2_facts cX2_facts 4 (Option.some (Jvm.ClassFile.FieldType.object "BrambleLogic$Facts"))) 72 (s_X2_facts E a0) [zP a0] := by
  refine z_met hl (by decide +kernel) (by rw [zSl_len]; exact (Nat.le_of_ble_eq_true rfl)) fun p e R s m args below meth c k0 x hret hnm htab => ?_
  refine z_lv [(0, zP a0)] rfl ?_
  unfold s_X2_facts
  refine z_aload_n (pc := 0) x 0 dX2_facts_0 rfl rfl ?_
  refine z_get (pc := 1) (fun _ _ h => zAsR_eq h) x in_X2 (ci := 26) rfl (k := 3) (by decide) q258 (fun _ h => h) dX2_facts_1 fun v1 => ?_
  refine z_ifnonnull (pc := 4) (tgt := 66) x dX2_facts_4 rfl (fun _ => ?_) (fun _ => ?_)
  · refine z_new (pc := 7) x in_X7 tyX7 tyX7_ok q372 q373 q138 (ci := 35) rfl (by decide) (by decide +kernel) dX2_facts_7 fun v7 => ?_
    refine z_dup (pc := 10) x dX2_facts_10 rfl ?_
    refine z_aload_n (pc := 11) x 0 dX2_facts_11 rfl rfl ?_
    refine z_get (pc := 12) (fun _ _ h => zAsR_eq h) x in_X2 (ci := 26) rfl (k := 1) (by decide) q252 (fun _ h => h) dX2_facts_12 fun v12 => ?_
    refine z_call (pc := 15) (z_canI (pc := 15) (ret := none) (As := [zP v12]) (st := [zP v7]) x (fun b => m_X7_init hl (some b) v12) q374 rfl q375 q138 q376 n_X7_init ⟨by decide, by decide⟩ (Nat.le_of_ble_eq_true rfl) dX2_facts_15) (zv_V ?_) (fun q => zx_thr x (fun z hz => (htab z hz).elim) q)
    refine z_call (pc := 18) (z_canV (pc := 18) (As := []) (st := []) x (ci := 35) rfl (fun b => m_X7_layers hl (some b)) q601 q602 (x.2.2.2.2.1 _ q603) q138 q604 n_X7_layers ⟨by decide, by decide⟩ (Nat.le_of_ble_eq_true rfl) dX2_facts_18) (zv_R fun v18 => ?_) (fun q => zx_thr x (fun z hz => (htab z hz).elim) q)
    refine z_astore_n (pc := 21) (lv' := [(1, zP v18), (0, zP a0)]) x dX2_facts_21 rfl (Nat.le_of_ble_eq_true rfl) rfl ?_
    refine z_new (pc := 22) x in_X8 tyX8 tyX8_ok q615 q616 q142 (ci := 36) rfl (by decide) (by decide +kernel) dX2_facts_22 fun v22 => ?_
    refine z_dup (pc := 25) x dX2_facts_25 rfl ?_
    refine z_aload_n (pc := 26) x 1 dX2_facts_26 rfl rfl ?_
    refine z_get (pc := 27) (fun _ _ h => zAsR_eq h) x in_X2 (ci := 26) rfl (k := 0) (by decide) q248 (fun _ h => h) dX2_facts_27 fun v27 => ?_
    refine z_call (pc := 30) (z_canI (pc := 30) (ret := none) (As := [zP v27]) (st := [zP v22]) x (fun b => m_X8_init hl (some b) v27) q617 rfl q618 q142 q619 n_X8_init ⟨by decide, by decide⟩ (Nat.le_of_ble_eq_true rfl) dX2_facts_30) (zv_V ?_) (fun q => zx_thr x (fun z hz => (htab z hz).elim) q)
    refine z_astore_n (pc := 33) (lv' := [(2, zP v22), (1, zP v18), (0, zP a0)]) x dX2_facts_33 rfl (Nat.le_of_ble_eq_true rfl) rfl ?_
    refine z_iconst (pc := 34) x (v := (0 : Int32)) dX2_facts_34 rfl ?_
    refine z_istore_n (pc := 35) (lv' := [(3, zI (0 : Int32)), (2, zP v22), (1, zP v18), (0, zP a0)]) x dX2_facts_35 rfl (Nat.le_of_ble_eq_true rfl) rfl ?_
    exact z_sub [3, 2, 1, 0] rfl (w_X2_facts_36 x hl hret hnm htab zN a0 v18 v22 (0 : Int32))
  · exact z_sub [0] rfl (w_X2_facts_66 x hl hret hnm htab a0)
/-! X1_requireElement -/
def s_X1_requireElement (E : zE) (a0 : Int32) : zM := if a0 = 0 then (zNew 6 6 [] (fun v4 => zAth v4 zThr)) else (zRet none)
theorem m_X1_requireElement {l : Launch} {E : zE} {D : va_G} {tA : Nat → ClassId} (hl : l.stackTraces = false) (a0 : Int32) : zMet l E D tA yX1_requireElement (ws_ yX1_requireElement cX1_requireElement 1 (Option.none : Option Jvm.ClassFile.FieldType)) 9 (s_X1_requireElement E a0) [zI a0] := by
  refine z_met hl (by decide +kernel) (by rw [zSl_len]; exact (Nat.le_of_ble_eq_true rfl)) fun p e R s m args below meth c k0 x hret hnm htab => ?_
  refine z_lv [(0, zI a0)] rfl ?_
  unfold s_X1_requireElement
  refine z_iload_n (pc := 0) x 0 dX1_requireElement_0 rfl rfl ?_
  refine z_if_ne (pc := 1) (tgt := 12) x dX1_requireElement_1 rfl (fun _ => ?_) (fun _ => ?_)
  · refine z_exc (pc := 4) x ["java/lang/RuntimeException", "java/lang/Exception"] (by decide) (by decide +kernel) (by decide +kernel) q1658 q137 (zx_at0 x zxa_NoSuchElementException q1659) (List.all_eq_true.mp (by decide +kernel)) (ci := 6) rfl (by show 2 + 3 < _; omega) (zSum (k := 0) rfl (by show _ + (13 * (2 + 1) + 42) ≤ _; omega)) dX1_requireElement_4 dX1_requireElement_7 dX1_requireElement_8 fun v4 => ?_
    exact z_athrow (pc := 11) x dX1_requireElement_11 (fun q => zx_thr x (fun z hz => (htab z hz).elim) q)
  · exact z_vret (pc := 12) x hret dX1_requireElement_12
/-! X5_remove -/
def s_X5_remove (E : zE) (a0 : Option Nat) (a1 : Int32) : zM := zGetR a0 33 0 (fun v1 => zDiv a1 (32 : Int32) (fun v7 => zGaI 0 v1 v7 (fun v9 => zRem a1 (32 : Int32) (fun v14 => zSaI E 0 v1 v7 (v9 &&& (((1 : Int32) <<< (v14 &&& 31)) ^^^ (-1 : Int32))) (zRet none)))))
theorem m_X5_remove {l : Launch} {E : zE} {D : va_G} {tA : Nat → ClassId} (hl : l.stackTraces = false) (a0 : Option Nat) (a1 : Int32) : zMet l E D tA yX5_remove (ws_ yX5_remove cX5_remove 2 (Option.none : Option Jvm.ClassFile.FieldType)) 9 (s_X5_remove E a0 a1) [zP a0, zI a1] := by
  refine z_met hl (by decide +kernel) (by rw [zSl_len]; exact (Nat.le_of_ble_eq_true rfl)) fun p e R s m args below meth c k0 x hret hnm htab => ?_
  refine z_lv [(0, zP a0), (1, zI a1)] rfl ?_
  unfold s_X5_remove
  refine z_aload_n (pc := 0) x 0 dX5_remove_0 rfl rfl ?_
  refine z_get (pc := 1) (fun _ _ h => zAsR_eq h) x in_X5 (ci := 33) rfl (k := 0) (by decide) q236 (fun _ h => h) dX5_remove_1 fun v1 => ?_
  refine z_iload_n (pc := 4) x 1 dX5_remove_4 rfl rfl ?_
  refine z_bipush (pc := 5) x (v := (32 : Int32)) dX5_remove_5 rfl ?_
  refine z_idiv (pc := 7) x dX5_remove_7 fun v7 => ?_
  refine z_dup2 (pc := 8) x dX5_remove_8 rfl rfl ?_
  refine z_iald (pc := 9) x (t := 0) rfl dX5_remove_9 fun v9 => ?_
  refine z_iconst (pc := 10) x (v := (1 : Int32)) dX5_remove_10 rfl ?_
  refine z_iload_n (pc := 11) x 1 dX5_remove_11 rfl rfl ?_
  refine z_bipush (pc := 12) x (v := (32 : Int32)) dX5_remove_12 rfl ?_
  refine z_irem (pc := 14) x dX5_remove_14 fun v14 => ?_
  refine z_ishl (pc := 15) x dX5_remove_15 ?_
  refine z_iconst (pc := 16) x (v := (-1 : Int32)) dX5_remove_16 rfl ?_
  refine z_ixor (pc := 17) x dX5_remove_17 ?_
  refine z_iand (pc := 18) x dX5_remove_18 ?_
  refine z_iast (pc := 19) x (t := 0) rfl dX5_remove_19 ?_
  exact z_vret (pc := 20) x hret dX5_remove_20
/-! X2_without -/
def s_X2_without (E : zE) (a0 : Option Nat) (a1 : Int32) (a2 : Int32) : zM := zGetR a0 26 0 (fun v1 => zC (zRv v1 [(32, fun b => s_X4_has E (some b) (a1 - (97 : Int32)) a2)]) zThr (zKI (fun v9 => zC (s_X1_requireElement E v9) zThr (zKV (zNew 26 4 [.null, .null, .null, .null] (fun v15 => zC (zSp v15 (fun b => s_X2_init_2 E (some b) a0)) zThr (zKV (zGetR v15 26 0 (fun v25 => zGetR v25 32 0 (fun v28 => zGaR 6 v28 (a1 - (97 : Int32)) (fun v35 => zC (zRv v35 [(33, fun b => s_X5_remove E (some b) a2)]) zThr (zKV (zC (zRv v15 [(26, fun b => s_X2_facts E (some b))]) zThr (zKR (fun v41 => zRet (some (va_rf v41)))))))))))))))))
theorem m_X2_without {l : Launch} {E : zE} {D : va_G} {tA : Nat → ClassId} (hl : l.stackTraces = false) (a0 : Option Nat) (a1 : Int32) (a2 : Int32) : zMet l E D tA yX2_without (ws_ yX2_without cX2_without 4 (Option.some (Jvm.ClassFile.FieldType.object "BrambleLogic$Facts"))) 73 (s_X2_without E a0 a1 a2) [zP a0, zI a1, zI a2] := by
  refine z_met hl (by decide +kernel) (by rw [zSl_len]; exact (Nat.le_of_ble_eq_true rfl)) fun p e R s m args below meth c k0 x hret hnm htab => ?_
  refine z_lv [(0, zP a0), (1, zI a1), (2, zI a2)] rfl ?_
  unfold s_X2_without
  refine z_aload_n (pc := 0) x 0 dX2_without_0 rfl rfl ?_
  refine z_get (pc := 1) (fun _ _ h => zAsR_eq h) x in_X2 (ci := 26) rfl (k := 0) (by decide) q248 (fun _ h => h) dX2_without_1 fun v1 => ?_
  refine z_iload_n (pc := 4) x 1 dX2_without_4 rfl rfl ?_
  refine z_bipush (pc := 5) x (v := (97 : Int32)) dX2_without_5 rfl ?_
  refine z_isub (pc := 7) x dX2_without_7 ?_
  refine z_iload_n (pc := 8) x 2 dX2_without_8 rfl rfl ?_
  refine z_call (pc := 9) (z_canV (pc := 9) (As := [zI (a1 - (97 : Int32)), zI a2]) (st := []) x (ci := 32) rfl (fun b => m_X4_has hl (some b) (a1 - (97 : Int32)) a2) q1212 q814 (x.2.2.2.2.1 _ q815) q114 q816 n_X4_has ⟨by decide, by decide⟩ (Nat.le_of_ble_eq_true rfl) dX2_without_9) (zv_I fun v9 => ?_) (fun q => zx_thr x (fun z hz => (htab z hz).elim) q)
  refine z_call (pc := 12) (z_canSN (pc := 12) (As := [zI v9]) (st := []) x (m_X1_requireElement hl v9) q1655 q1656 q108 q1657 n_X1_requireElement ⟨by decide, by decide⟩ (Nat.le_of_ble_eq_true rfl) dX2_without_12) (zv_V ?_) (fun q => zx_thr x (fun z hz => (htab z hz).elim) q)
  refine z_new (pc := 15) x in_X2 tyX2 tyX2_ok q1660 q176 q109 (ci := 26) rfl (by decide) (by decide +kernel) dX2_without_15 fun v15 => ?_
  refine z_dup (pc := 18) x dX2_without_18 rfl ?_
  refine z_aload_n (pc := 19) x 0 dX2_without_19 rfl rfl ?_
  refine z_call (pc := 20) (z_canI (pc := 20) (ret := none) (As := [zP a0]) (st := [zP v15]) x (fun b => m_X2_init_2 hl (some b) a0) q1661 rfl q1470 q109 q1471 n_X2_init_2 ⟨by decide, by decide⟩ (Nat.le_of_ble_eq_true rfl) dX2_without_20) (zv_V ?_) (fun q => zx_thr x (fun z hz => (htab z hz).elim) q)
  refine z_astore_n (pc := 23) (lv' := [(3, zP v15), (0, zP a0), (1, zI a1), (2, zI a2)]) x dX2_without_23 rfl (Nat.le_of_ble_eq_true rfl) rfl ?_
  refine z_aload_n (pc := 24) x 0 dX2_without_24 rfl rfl ?_
  refine z_get (pc := 25) (fun _ _ h => zAsR_eq h) x in_X2 (ci := 26) rfl (k := 0) (by decide) q248 (fun _ h => h) dX2_without_25 fun v25 => ?_
  refine z_getN (pc := 28) (fun _ _ h => zAsR_eq h) x in_X4 (ci := 32) rfl (k := 0) (by decide) q243 (fun _ h => h) dX2_without_28 fun v28 => ?_
  refine z_iload_n (pc := 31) x 2 dX2_without_31 rfl rfl ?_
  refine z_bipush (pc := 32) x (v := (97 : Int32)) dX2_without_32 rfl ?_
  refine z_isub (pc := 34) x dX2_without_34 ?_
  refine z_aald (pc := 35) x (t := 6) rfl rfl dX2_without_35 fun v35 => ?_
  refine z_iload_n (pc := 36) x 3 dX2_without_36 rfl rfl ?_
  refine z_call (pc := 37) (z_canV (pc := 37) (As := [zI a2]) (st := []) x (ci := 33) rfl (fun b => m_X5_remove hl (some b) a2) q1662 q1663 (x.2.2.2.2.1 _ q1664) q115 q1665 n_X5_remove ⟨by decide, by decide⟩ (Nat.le_of_ble_eq_true rfl) dX2_without_37) (zv_V ?_) (fun q => zx_thr x (fun z hz => (htab z hz).elim) q)
  refine z_aload_n (pc := 40) x 0 dX2_without_40 rfl rfl ?_
  refine z_call (pc := 41) (z_canV (pc := 41) (As := []) (st := []) x (ci := 26) rfl (fun b => m_X2_facts hl (some b)) q984 q369 (x.2.2.2.2.1 _ q370) q109 q371 n_X2_facts ⟨by decide, by decide⟩ (Nat.le_of_ble_eq_true rfl) dX2_without_41) (zv_R fun v41 => ?_) (fun q => zx_thr x (fun z hz => (htab z hz).elim) q)
  exact z_aret (pc := 44) x hret (Or.inl ⟨_, rfl⟩) dX2_without_44
/-! X4_countWithout -/
def s_X4_countWithout_46 (E : zE) (k4 : Option Nat → Option Nat → Int32 → Int32 → zM) (k13 : Option Nat → Option Nat → Int32 → Int32 → Int32 → zM) (a0 : Option Nat) (a1 : Option Nat) (a3 : Int32) (a4 : Int32) (b0 : Int32) (b1 : Int32) : zM := k13 a0 a1 (b0 + b1) a3 (a4 + (1 : Int32))
theorem w_X4_countWithout_46 (x : zCx p l R s m args meth c E D tA cX4_countWithout 5 yX4_countWithout.cls 11) (hl : l.stackTraces = false) (hret : meth.sig.returnType = (Option.some Jvm.ClassFile.FieldType.int)) (hnm : meth.name = yX4_countWithout.name) (htab : ∀ z ∈ c.exceptionTable.toList, False) {k4 : Option Nat → Option Nat → Int32 → Int32 → zM} (h4 : ∀ (a0 : Option Nat) (a1 : Option Nat) (a2 : Int32) (a3 : Int32) , zW p l e R s m args below meth c E D tA 5 k0 (k4 a0 a1 a2 a3) [(0, zP a0), (1, zP a1), (2, zI a2), (3, zI a3)] 4 []) {k13 : Option Nat → Option Nat → Int32 → Int32 → Int32 → zM} (h13 : ∀ (a0 : Option Nat) (a1 : Option Nat) (a2 : Int32) (a3 : Int32) (a4 : Int32) , zW p l e R s m args below meth c E D tA 5 k0 (k13 a0 a1 a2 a3 a4) [(0, zP a0), (1, zP a1), (2, zI a2), (3, zI a3), (4, zI a4)] 13 []) (a0 : Option Nat) (a1 : Option Nat) (a3 : Int32) (a4 : Int32) (b0 : Int32) (b1 : Int32) : zW p l e R s m args below meth c E D tA 5 k0 (s_X4_countWithout_46 E k4 k13 a0 a1 a3 a4 b0 b1) [(0, zP a0), (1, zP a1), (3, zI a3), (4, zI a4)] 46 [zI b1, zI b0] := by
  unfold s_X4_countWithout_46
  refine z_iadd (pc := 46) x dX4_countWithout_46 ?_
  refine z_istore_n (pc := 47) (lv' := [(2, zI (b0 + b1)), (0, zP a0), (1, zP a1), (3, zI a3), (4, zI a4)]) x dX4_countWithout_47 rfl (Nat.le_of_ble_eq_true rfl) rfl ?_
  refine z_iinc (pc := 48) (lv' := [(4, zI (a4 + (1 : Int32))), (2, zI (b0 + b1)), (0, zP a0), (1, zP a1), (3, zI a3)]) x (v2 := (a4 + (1 : Int32))) 4 dX4_countWithout_48 rfl rfl (Nat.le_of_ble_eq_true rfl) rfl ?_
  refine z_goto (pc := 51) (tgt := 13) x dX4_countWithout_51 rfl ?_
  exact z_sub [2, 3, 1, 4, 0] rfl (h13 a0 a1 (b0 + b1) a3 (a4 + (1 : Int32)))
def s_X4_countWithout_45 (E : zE) (k4 : Option Nat → Option Nat → Int32 → Int32 → zM) (k13 : Option Nat → Option Nat → Int32 → Int32 → Int32 → zM) (a0 : Option Nat) (a1 : Option Nat) (a3 : Int32) (a4 : Int32) (b0 : Int32) : zM := s_X4_countWithout_46 E k4 k13 a0 a1 a3 a4 b0 (0 : Int32)
theorem w_X4_countWithout_45 (x : zCx p l R s m args meth c E D tA cX4_countWithout 5 yX4_countWithout.cls 11) (hl : l.stackTraces = false) (hret : meth.sig.returnType = (Option.some Jvm.ClassFile.FieldType.int)) (hnm : meth.name = yX4_countWithout.name) (htab : ∀ z ∈ c.exceptionTable.toList, False) {k4 : Option Nat → Option Nat → Int32 → Int32 → zM} (h4 : ∀ (a0 : Option Nat) (a1 : Option Nat) (a2 : Int32) (a3 : Int32) , zW p l e R s m args below meth c E D tA 5 k0 (k4 a0 a1 a2 a3) [(0, zP a0), (1, zP a1), (2, zI a2), (3, zI a3)] 4 []) {k13 : Option Nat → Option Nat → Int32 → Int32 → Int32 → zM} (h13 : ∀ (a0 : Option Nat) (a1 : Option Nat) (a2 : Int32) (a3 : Int32) (a4 : Int32) , zW p l e R s m args below meth c E D tA 5 k0 (k13 a0 a1 a2 a3 a4) [(0, zP a0), (1, zP a1), (2, zI a2), (3, zI a3), (4, zI a4)] 13 []) (a0 : Option Nat) (a1 : Option Nat) (a3 : Int32) (a4 : Int32) (b0 : Int32) : zW p l e R s m args below meth c E D tA 5 k0 (s_X4_countWithout_45 E k4 k13 a0 a1 a3 a4 b0) [(0, zP a0), (1, zP a1), (3, zI a3), (4, zI a4)] 45 [zI b0] := by
  unfold s_X4_countWithout_45
  refine z_iconst (pc := 45) x (v := (0 : Int32)) dX4_countWithout_45 rfl ?_
  exact z_sub [0, 1, 2, 3] rfl (w_X4_countWithout_46 x hl hret hnm htab h4 h13 a0 a1 a3 a4 b0 (0 : Int32))
def s_X4_countWithout_13 (E : zE) (k4 : Option Nat → Option Nat → Int32 → Int32 → zM) : Nat → Option Nat → Option Nat → Int32 → Int32 → Int32 → zM
  | 0, _, _, _, _, _ => zFail
  | n + 1, a0, a1, a2, a3, a4 => if (100 : Int32) ≤ a4 then (k4 a0 a1 a2 (a3 + (1 : Int32))) else (zC (zRv a0 [(32, fun b => s_X4_has E (some b) a3 a4)]) zThr (zKI (fun v25 => if v25 = 0 then (s_X4_countWithout_45 E k4 (s_X4_countWithout_13 E k4 n) a0 a1 a3 a4 a2) else (zC (zRv a1 [(32, fun b => s_X4_has E (some b) a3 a4)]) zThr (zKI (fun v35 => if v35 = 0 then (s_X4_countWithout_46 E k4 (s_X4_countWithout_13 E k4 n) a0 a1 a3 a4 a2 (1 : Int32)) else (s_X4_countWithout_45 E k4 (s_X4_countWithout_13 E k4 n) a0 a1 a3 a4 a2)))))))
theorem w_X4_countWithout_13 (x : zCx p l R s m args meth c E D tA cX4_countWithout 5 yX4_countWithout.cls 11) (hl : l.stackTraces = false) (hret : meth.sig.returnType = (Option.some Jvm.ClassFile.FieldType.int)) (hnm : meth.name = yX4_countWithout.name) (htab : ∀ z ∈ c.exceptionTable.toList, False) {k4 : Option Nat → Option Nat → Int32 → Int32 → zM} (h4 : ∀ (a0 : Option Nat) (a1 : Option Nat) (a2 : Int32) (a3 : Int32) , zW p l e R s m args below meth c E D tA 5 k0 (k4 a0 a1 a2 a3) [(0, zP a0), (1, zP a1), (2, zI a2), (3, zI a3)] 4 []) : ∀ (n : Nat) (a0 : Option Nat) (a1 : Option Nat) (a2 : Int32) (a3 : Int32) (a4 : Int32), zW p l e R s m args below meth c E D tA 5 k0 (s_X4_countWithout_13 E k4 n a0 a1 a2 a3 a4) [(0, zP a0), (1, zP a1), (2, zI a2), (3, zI a3), (4, zI a4)] 13 [] := by
  intro n
  induction n with
  | zero => intro a0 a1 a2 a3 a4; exact z_fail
  | succ n h13 =>
    intro a0 a1 a2 a3 a4
    rw [s_X4_countWithout_13]
    refine z_iload (pc := 13) x 4 dX4_countWithout_13 rfl ?_
    refine z_bipush (pc := 15) x (v := (100 : Int32)) dX4_countWithout_15 rfl ?_
    refine z_icmp_ge (pc := 17) (tgt := 54) x dX4_countWithout_17 rfl (fun _ => ?_) (fun _ => ?_)
    · refine z_iinc (pc := 54) (lv' := [(3, zI (a3 + (1 : Int32))), (0, zP a0), (1, zP a1), (2, zI a2), (4, zI a4)]) x (v2 := (a3 + (1 : Int32))) 3 dX4_countWithout_54 rfl rfl (Nat.le_of_ble_eq_true rfl) rfl ?_
      refine z_goto (pc := 57) (tgt := 4) x dX4_countWithout_57 rfl ?_
      exact z_sub [1, 2, 3, 0] rfl (h4 a0 a1 a2 (a3 + (1 : Int32)))
    · refine z_iload_n (pc := 20) x 2 dX4_countWithout_20 rfl rfl ?_
      refine z_aload_n (pc := 21) x 0 dX4_countWithout_21 rfl rfl ?_
      refine z_iload_n (pc := 22) x 3 dX4_countWithout_22 rfl rfl ?_
      refine z_iload (pc := 23) x 4 dX4_countWithout_23 rfl ?_
      refine z_call (pc := 25) (z_canV (pc := 25) (As := [zI a3, zI a4]) (st := [zI a2]) x (ci := 32) rfl (fun b => m_X4_has hl (some b) a3 a4) q989 q814 (x.2.2.2.2.1 _ q815) q114 q816 n_X4_has ⟨by decide, by decide⟩ (Nat.le_of_ble_eq_true rfl) dX4_countWithout_25) (zv_I fun v25 => ?_) (fun q => zx_thr x (fun z hz => (htab z hz).elim) q)
      refine z_if_eq (pc := 28) (tgt := 45) x dX4_countWithout_28 rfl (fun _ => ?_) (fun _ => ?_)
      · exact z_sub [0, 1, 3, 4] rfl (w_X4_countWithout_45 x hl hret hnm htab h4 h13 a0 a1 a3 a4 a2)
      · refine z_aload_n (pc := 31) x 1 dX4_countWithout_31 rfl rfl ?_
        refine z_iload_n (pc := 32) x 3 dX4_countWithout_32 rfl rfl ?_
        refine z_iload (pc := 33) x 4 dX4_countWithout_33 rfl ?_
        refine z_call (pc := 35) (z_canV (pc := 35) (As := [zI a3, zI a4]) (st := [zI a2]) x (ci := 32) rfl (fun b => m_X4_has hl (some b) a3 a4) q989 q814 (x.2.2.2.2.1 _ q815) q114 q816 n_X4_has ⟨by decide, by decide⟩ (Nat.le_of_ble_eq_true rfl) dX4_countWithout_35) (zv_I fun v35 => ?_) (fun q => zx_thr x (fun z hz => (htab z hz).elim) q)
        refine z_if_ne (pc := 38) (tgt := 45) x dX4_countWithout_38 rfl (fun _ => ?_) (fun _ => ?_)
        · refine z_iconst (pc := 41) x (v := (1 : Int32)) dX4_countWithout_41 rfl ?_
          refine z_goto (pc := 42) (tgt := 46) x dX4_countWithout_42 rfl ?_
          exact z_sub [0, 1, 3, 4] rfl (w_X4_countWithout_46 x hl hret hnm htab h4 h13 a0 a1 a3 a4 a2 (1 : Int32))
        · exact z_sub [0, 1, 3, 4] rfl (w_X4_countWithout_45 x hl hret hnm htab h4 h13 a0 a1 a3 a4 a2)
def s_X4_countWithout_4 (E : zE) : Nat → Option Nat → Option Nat → Int32 → Int32 → zM
  | 0, _, _, _, _ => zFail
  | n + 1, a0, a1, a2, a3 => if (8 : Int32) ≤ a3 then (zRet (some (.int a2))) else (s_X4_countWithout_13 E (s_X4_countWithout_4 E n) zN a0 a1 a2 a3 (0 : Int32))
theorem w_X4_countWithout_4 (x : zCx p l R s m args meth c E D tA cX4_countWithout 5 yX4_countWithout.cls 11) (hl : l.stackTraces = false) (hret : meth.sig.returnType = (Option.some Jvm.ClassFile.FieldType.int)) (hnm : meth.name = yX4_countWithout.name) (htab : ∀ z ∈ c.exceptionTable.toList, False) : ∀ (n : Nat) (a0 : Option Nat) (a1 : Option Nat) (a2 : Int32) (a3 : Int32), zW p l e R s m args below meth c E D tA 5 k0 (s_X4_countWithout_4 E n a0 a1 a2 a3) [(0, zP a0), (1, zP a1), (2, zI a2), (3, zI a3)] 4 [] := by
  intro n
  induction n with
  | zero => intro a0 a1 a2 a3; exact z_fail
  | succ n h4 =>
    intro a0 a1 a2 a3
    rw [s_X4_countWithout_4]
    refine z_iload_n (pc := 4) x 3 dX4_countWithout_4 rfl rfl ?_
    refine z_bipush (pc := 5) x (v := (8 : Int32)) dX4_countWithout_5 rfl ?_
    refine z_icmp_ge (pc := 7) (tgt := 60) x dX4_countWithout_7 rfl (fun _ => ?_) (fun _ => ?_)
    · refine z_iload_n (pc := 60) x 2 dX4_countWithout_60 rfl rfl ?_
      exact z_iret (pc := 61) x hret dX4_countWithout_61
    · refine z_iconst (pc := 10) x (v := (0 : Int32)) dX4_countWithout_10 rfl ?_
      refine z_istore (pc := 11) (lv' := [(4, zI (0 : Int32)), (0, zP a0), (1, zP a1), (2, zI a2), (3, zI a3)]) x dX4_countWithout_11 (Nat.le_of_ble_eq_true rfl) rfl ?_
      exact z_sub [1, 2, 3, 4, 0] rfl (w_X4_countWithout_13 x hl hret hnm htab h4 zN a0 a1 a2 a3 (0 : Int32))
def s_X4_countWithout (E : zE) (a0 : Option Nat) (a1 : Option Nat) : zM := s_X4_countWithout_4 E zN a0 a1 (0 : Int32) (0 : Int32)
theorem m_X4_countWithout {l : Launch} {E : zE} {D : va_G} {tA : Nat → ClassId} (hl : l.stackTraces = false) (a0 : Option Nat) (a1 : Option Nat) : zMet l E D tA yX4_countWithout (ws_ yX4_countWithout cX4_countWithout 5 (Option.some Jvm.ClassFile.FieldType.int)) 11 (s_X4_countWithout E a0 a1) [zP a0, zP a1] := by
  refine z_met hl (by decide +kernel) (by rw [zSl_len]; exact (Nat.le_of_ble_eq_true rfl)) fun p e R s m args below meth c k0 x hret hnm htab => ?_
  refine z_lv [(0, zP a0), (1, zP a1)] rfl ?_
  unfold s_X4_countWithout
  refine z_iconst (pc := 0) x (v := (0 : Int32)) dX4_countWithout_0 rfl ?_
  refine z_istore_n (pc := 1) (lv' := [(2, zI (0 : Int32)), (0, zP a0), (1, zP a1)]) x dX4_countWithout_1 rfl (Nat.le_of_ble_eq_true rfl) rfl ?_
  refine z_iconst (pc := 2) x (v := (0 : Int32)) dX4_countWithout_2 rfl ?_
  refine z_istore_n (pc := 3) (lv' := [(3, zI (0 : Int32)), (2, zI (0 : Int32)), (0, zP a0), (1, zP a1)]) x dX4_countWithout_3 rfl (Nat.le_of_ble_eq_true rfl) rfl ?_
  exact z_sub [2, 3, 1, 0] rfl (w_X4_countWithout_4 x hl hret hnm htab zN a0 a1 (0 : Int32) (0 : Int32))
/-! X2_takeFact -/
def s_X2_takeFact (E : zE) (a0 : Option Nat) (a1 : Int32) (a2 : Int32) (a3 : Int32) : zM := zC (s_X1_requireCode E a1 a2 a3) zThr (zKI (fun v3 => zC (zRv a0 [(26, fun b => s_X2_facts E (some b))]) zThr (zKR (fun v9 => zC (zRv a0 [(26, fun b => s_X2_without E (some b) a1 v3)]) zThr (zKR (fun v16 => zC (zRv v9 [(32, fun b => s_X4_countWithout E (some b) v16)]) zThr (zKI (fun v19 => zGetR a0 26 0 (fun v25 => zGetR v25 32 0 (fun v28 => zGaR 6 v28 (a1 - (97 : Int32)) (fun v35 => zC (zRv v35 [(33, fun b => s_X5_remove E (some b) v3)]) zThr (zKV (zGetR a0 26 2 (fun v42 => zC (zRv v42 [(0, fun b => s_X3_go E (some b))]) zThr (zKV (zSet E a0 26 3 (zVal (zP none)) (zRet (some (.int v19)))))))))))))))))))
theorem m_X2_takeFact {l : Launch} {E : zE} {D : va_G} {tA : Nat → ClassId} (hl : l.stackTraces = false) (a0 : Option Nat) (a1 : Int32) (a2 : Int32) (a3 : Int32) : zMet l E D tA yX2_takeFact (ws_ yX2_takeFact cX2_takeFact 6 (Option.some Jvm.ClassFile.FieldType.int)) 74 (s_X2_takeFact E a0 a1 a2 a3) [zP a0, zI a1, zI a2, zI a3] := by
  refine z_met hl (by decide +kernel) (by rw [zSl_len]; exact (Nat.le_of_ble_eq_true rfl)) fun p e R s m args below meth c k0 x hret hnm htab => ?_
  refine z_lv [(0, zP a0), (1, zI a1), (2, zI a2), (3, zI a3)] rfl ?_
  unfold s_X2_takeFact
  refine z_iload_n (pc := 0) x 1 dX2_takeFact_0 rfl rfl ?_
  refine z_iload_n (pc := 1) x 2 dX2_takeFact_1 rfl rfl ?_
  refine z_iload_n (pc := 2) x 3 dX2_takeFact_2 rfl rfl ?_
  refine z_call (pc := 3) (z_canSN (pc := 3) (As := [zI a1, zI a2, zI a3]) (st := []) x (m_X1_requireCode hl a1 a2 a3) q1516 q1517 q108 q1518 n_X1_requireCode ⟨by decide, by decide⟩ (Nat.le_of_ble_eq_true rfl) dX2_takeFact_3) (zv_I fun v3 => ?_) (fun q => zx_thr x (fun z hz => (htab z hz).elim) q)
  refine z_istore (pc := 6) (lv' := [(4, zI v3), (0, zP a0), (1, zI a1), (2, zI a2), (3, zI a3)]) x dX2_takeFact_6 (Nat.le_of_ble_eq_true rfl) rfl ?_
  refine z_aload_n (pc := 8) x 1 dX2_takeFact_8 rfl rfl ?_
  refine z_call (pc := 9) (z_canV (pc := 9) (As := []) (st := []) x (ci := 26) rfl (fun b => m_X2_facts hl (some b)) q984 q369 (x.2.2.2.2.1 _ q370) q109 q371 n_X2_facts ⟨by decide, by decide⟩ (Nat.le_of_ble_eq_true rfl) dX2_takeFact_9) (zv_R fun v9 => ?_) (fun q => zx_thr x (fun z hz => (htab z hz).elim) q)
  refine z_aload_n (pc := 12) x 1 dX2_takeFact_12 rfl rfl ?_
  refine z_iload_n (pc := 13) x 2 dX2_takeFact_13 rfl rfl ?_
  refine z_iload (pc := 14) x 0 dX2_takeFact_14 rfl ?_
  refine z_call (pc := 16) (z_canV (pc := 16) (As := [zI a1, zI v3]) (st := [zP v9]) x (ci := 26) rfl (fun b => m_X2_without hl (some b) a1 v3) q1651 q1652 (x.2.2.2.2.1 _ q1653) q109 q1654 n_X2_without ⟨by decide, by decide⟩ (Nat.le_of_ble_eq_true rfl) dX2_takeFact_16) (zv_R fun v16 => ?_) (fun q => zx_thr x (fun z hz => (htab z hz).elim) q)
  refine z_call (pc := 19) (z_canV (pc := 19) (As := [zP v16]) (st := []) x (ci := 32) rfl (fun b => m_X4_countWithout hl (some b) v16) q985 q986 (x.2.2.2.2.1 _ q987) q114 q988 n_X4_countWithout ⟨by decide, by decide⟩ (Nat.le_of_ble_eq_true rfl) dX2_takeFact_19) (zv_I fun v19 => ?_) (fun q => zx_thr x (fun z hz => (htab z hz).elim) q)
  refine z_istore (pc := 22) (lv' := [(5, zI v19), (4, zI v3), (0, zP a0), (1, zI a1), (2, zI a2), (3, zI a3)]) x dX2_takeFact_22 (Nat.le_of_ble_eq_true rfl) rfl ?_
  refine z_aload_n (pc := 24) x 2 dX2_takeFact_24 rfl rfl ?_
  refine z_get (pc := 25) (fun _ _ h => zAsR_eq h) x in_X2 (ci := 26) rfl (k := 0) (by decide) q248 (fun _ h => h) dX2_takeFact_25 fun v25 => ?_
  refine z_getN (pc := 28) (fun _ _ h => zAsR_eq h) x in_X4 (ci := 32) rfl (k := 0) (by decide) q243 (fun _ h => h) dX2_takeFact_28 fun v28 => ?_
  refine z_iload_n (pc := 31) x 3 dX2_takeFact_31 rfl rfl ?_
  refine z_bipush (pc := 32) x (v := (97 : Int32)) dX2_takeFact_32 rfl ?_
  refine z_isub (pc := 34) x dX2_takeFact_34 ?_
  refine z_aald (pc := 35) x (t := 6) rfl rfl dX2_takeFact_35 fun v35 => ?_
  refine z_iload (pc := 36) x 1 dX2_takeFact_36 rfl ?_
  refine z_call (pc := 38) (z_canV (pc := 38) (As := [zI v3]) (st := []) x (ci := 33) rfl (fun b => m_X5_remove hl (some b) v3) q1662 q1663 (x.2.2.2.2.1 _ q1664) q115 q1665 n_X5_remove ⟨by decide, by decide⟩ (Nat.le_of_ble_eq_true rfl) dX2_takeFact_38) (zv_V ?_) (fun q => zx_thr x (fun z hz => (htab z hz).elim) q)
  refine z_aload_n (pc := 41) x 2 dX2_takeFact_41 rfl rfl ?_
  refine z_get (pc := 42) (fun _ _ h => zAsR_eq h) x in_X2 (ci := 26) rfl (k := 2) (by decide) q256 (fun _ h => h) dX2_takeFact_42 fun v42 => ?_
  refine z_call (pc := 45) (z_canVS (pc := 45) (As := []) (st := []) x (ci := 0) rfl (fun b => m_X3_go hl (some b)) q1666 q1667 (x.2.2.2.2.1 _ q1668) q113 q1669 n_X3_go ⟨by decide, by decide⟩ (Nat.le_of_ble_eq_true rfl) dX2_takeFact_45) (zv_V ?_) (fun q => zx_thr x (fun z hz => (htab z hz).elim) q)
  refine z_aload_n (pc := 48) x 2 dX2_takeFact_48 rfl rfl ?_
  refine z_null (pc := 49) x dX2_takeFact_49 ?_
  refine z_set (pc := 50) (v := zP none) x in_X2 tyX2 tyX2_ok nmX2 (ci := 26) rfl (k := 3) (by decide) q258 (fun _ h => h) rfl (zfitR rfl _).1 (zfitR rfl _).2 dX2_takeFact_50 ?_
  refine z_iload (pc := 53) x 0 dX2_takeFact_53 rfl ?_
  exact z_iret (pc := 55) x hret dX2_takeFact_55
/-! X1_takeFact -/
def s_X1_takeFact (E : zE) (a0 : Option Nat) (a1 : Int32) (a2 : Int32) (a3 : Int32) : zM := zNew 26 4 [.null, .null, .null, .null] (fun v0 => zGetR a0 16 0 (fun v5 => zC (zSp v0 (fun b => s_X2_init_2 E (some b) v5)) zThr (zKV (zC (zRv v0 [(26, fun b => s_X2_takeFact E (some b) a1 a2 a3)]) zThr (zKI (fun v18 => zC (zRv a0 [(16, fun b => s_X1_replaceLogic E (some b) v0)]) zThr (zKV (zRet (some (.int v18))))))))))
theorem m_X1_takeFact {l : Launch} {E : zE} {D : va_G} {tA : Nat → ClassId} (hl : l.stackTraces = false) (a0 : Option Nat) (a1 : Int32) (a2 : Int32) (a3 : Int32) : zMet l E D tA yX1_takeFact (ws_ yX1_takeFact cX1_takeFact 6 (Option.some Jvm.ClassFile.FieldType.int)) 75 (s_X1_takeFact E a0 a1 a2 a3) [zP a0, zI a1, zI a2, zI a3] := by
  refine z_met hl (by decide +kernel) (by rw [zSl_len]; exact (Nat.le_of_ble_eq_true rfl)) fun p e R s m args below meth c k0 x hret hnm htab => ?_
  refine z_lv [(0, zP a0), (1, zI a1), (2, zI a2), (3, zI a3)] rfl ?_
  unfold s_X1_takeFact
  refine z_new (pc := 0) x in_X2 tyX2 tyX2_ok q175 q176 q109 (ci := 26) rfl (by decide) (by decide +kernel) dX1_takeFact_0 fun v0 => ?_
  refine z_dup (pc := 3) x dX1_takeFact_3 rfl ?_
  refine z_aload_n (pc := 4) x 0 dX1_takeFact_4 rfl rfl ?_
  refine z_get (pc := 5) (fun _ _ h => zAsR_eq h) x in_X1 (ci := 16) rfl (k := 0) (by decide) q320 (fun _ h => h) dX1_takeFact_5 fun v5 => ?_
  refine z_call (pc := 8) (z_canI (pc := 8) (ret := none) (As := [zP v5]) (st := [zP v0]) x (fun b => m_X2_init_2 hl (some b) v5) q1469 rfl q1470 q109 q1471 n_X2_init_2 ⟨by decide, by decide⟩ (Nat.le_of_ble_eq_true rfl) dX1_takeFact_8) (zv_V ?_) (fun q => zx_thr x (fun z hz => (htab z hz).elim) q)
  refine z_astore (pc := 11) (lv' := [(4, zP v0), (0, zP a0), (1, zI a1), (2, zI a2), (3, zI a3)]) x dX1_takeFact_11 (Nat.le_of_ble_eq_true rfl) rfl ?_
  refine z_aload (pc := 13) x 0 dX1_takeFact_13 rfl ?_
  refine z_iload_n (pc := 15) x 2 dX1_takeFact_15 rfl rfl ?_
  refine z_iload_n (pc := 16) x 3 dX1_takeFact_16 rfl rfl ?_
  refine z_iload_n (pc := 17) x 4 dX1_takeFact_17 rfl rfl ?_
  refine z_call (pc := 18) (z_canV (pc := 18) (As := [zI a1, zI a2, zI a3]) (st := []) x (ci := 26) rfl (fun b => m_X2_takeFact hl (some b) a1 a2 a3) q1647 q1648 (x.2.2.2.2.1 _ q1649) q109 q1650 n_X2_takeFact ⟨by decide, by decide⟩ (Nat.le_of_ble_eq_true rfl) dX1_takeFact_18) (zv_I fun v18 => ?_) (fun q => zx_thr x (fun z hz => (htab z hz).elim) q)
  refine z_istore (pc := 21) (lv' := [(5, zI v18), (4, zP v0), (0, zP a0), (1, zI a1), (2, zI a2), (3, zI a3)]) x dX1_takeFact_21 (Nat.le_of_ble_eq_true rfl) rfl ?_
  refine z_aload_n (pc := 23) x 2 dX1_takeFact_23 rfl rfl ?_
  refine z_aload (pc := 24) x 1 dX1_takeFact_24 rfl ?_
  refine z_call (pc := 26) (z_canV (pc := 26) (As := [zP v0]) (st := []) x (ci := 16) rfl (fun b => m_X1_replaceLogic hl (some b) v0) q1575 q1577 (z_selP x (ci := 16) rfl (by decide) (zNi_inst x q168) q1576 q1577) q108 q1578 n_X1_replaceLogic ⟨by decide, by decide⟩ (Nat.le_of_ble_eq_true rfl) dX1_takeFact_26) (zv_V ?_) (fun q => zx_thr x (fun z hz => (htab z hz).elim) q)
  refine z_iload (pc := 29) x 0 dX1_takeFact_29 rfl ?_
  exact z_iret (pc := 31) x hret dX1_takeFact_31
/-! X0_takeFact -/
def s_X0_takeFact_15 (E : zE) (b0 : Option Nat) : zM := zRet (some (.int (1 : Int32)))
theorem w_X0_takeFact_15 (x : zCx p l R s m args meth c E D tA cX0_takeFact 6 yX0_takeFact.cls 76) (hl : l.stackTraces = false) (hret : meth.sig.returnType = (Option.some Jvm.ClassFile.FieldType.int)) (hnm : meth.name = yX0_takeFact.name) (htab : c.exceptionTable.toList = tableOf [(0, 12, 15, 13), (0, 12, 19, 22)]) (b0 : Option Nat) : zW p l e R s m args below meth c E D tA 6 k0 (s_X0_takeFact_15 E b0) [] 15 [zP b0] := by
  unfold s_X0_takeFact_15
  refine z_astore (pc := 15) (lv' := [(5, zP b0)]) x dX0_takeFact_15 (Nat.le_of_ble_eq_true rfl) rfl ?_
  refine z_iconst (pc := 17) x (v := (1 : Int32)) dX0_takeFact_17 rfl ?_
  exact z_iret (pc := 18) x hret dX0_takeFact_18
def s_X0_takeFact_19 (E : zE) (b0 : Option Nat) : zM := zRet (some (.int (2 : Int32)))
theorem w_X0_takeFact_19 (x : zCx p l R s m args meth c E D tA cX0_takeFact 6 yX0_takeFact.cls 76) (hl : l.stackTraces = false) (hret : meth.sig.returnType = (Option.some Jvm.ClassFile.FieldType.int)) (hnm : meth.name = yX0_takeFact.name) (htab : c.exceptionTable.toList = tableOf [(0, 12, 15, 13), (0, 12, 19, 22)]) (b0 : Option Nat) : zW p l e R s m args below meth c E D tA 6 k0 (s_X0_takeFact_19 E b0) [] 19 [zP b0] := by
  unfold s_X0_takeFact_19
  refine z_astore (pc := 19) (lv' := [(5, zP b0)]) x dX0_takeFact_19 (Nat.le_of_ble_eq_true rfl) rfl ?_
  refine z_iconst (pc := 21) x (v := (2 : Int32)) dX0_takeFact_21 rfl ?_
  exact z_iret (pc := 22) x hret dX0_takeFact_22
def s_X0_takeFact (E : zE) (a0 : Option Nat) (a1 : Int32) (a2 : Int32) (a3 : Int32) (a4 : Option Nat) : zM := zC (zRv a0 [(16, fun b => s_X1_takeFact E (some b) a1 a2 a3)]) (fun q => zCat1 q [(0, s_X0_takeFact_15 E (some q)), (6, s_X0_takeFact_19 E (some q))]) (zKI (fun v7 => zSaL E 3 a4 (0 : Int32) ((v7).toInt64) (zRet (some (.int (0 : Int32))))))
theorem m_X0_takeFact {l : Launch} {E : zE} {D : va_G} {tA : Nat → ClassId} (hl : l.stackTraces = false) (a0 : Option Nat) (a1 : Int32) (a2 : Int32) (a3 : Int32) (a4 : Option Nat) : zMet l E D tA yX0_takeFact (wsW_ yX0_takeFact cX0_takeFact 6 (Option.some Jvm.ClassFile.FieldType.int) [(0, 12, 15, 13), (0, 12, 19, 22)]) 76 (s_X0_takeFact E a0 a1 a2 a3 a4) [zP a0, zI a1, zI a2, zI a3, zP a4] := by
  refine z_metW hl (by decide +kernel) (by rw [zSl_len]; exact (Nat.le_of_ble_eq_true rfl)) fun p e R s m args below meth c k0 x hret hnm htab => ?_
  refine z_lv [(0, zP a0), (1, zI a1), (2, zI a2), (3, zI a3), (4, zP a4)] rfl ?_
  unfold s_X0_takeFact
  refine z_aload (pc := 0) x 4 dX0_takeFact_0 rfl ?_
  refine z_iconst (pc := 2) x (v := (0 : Int32)) dX0_takeFact_2 rfl ?_
  refine z_aload_n (pc := 3) x 0 dX0_takeFact_3 rfl rfl ?_
  refine z_iload_n (pc := 4) x 1 dX0_takeFact_4 rfl rfl ?_
  refine z_iload_n (pc := 5) x 2 dX0_takeFact_5 rfl rfl ?_
  refine z_iload_n (pc := 6) x 3 dX0_takeFact_6 rfl rfl ?_
  refine z_call (pc := 7) (z_canV (pc := 7) (As := [zI a1, zI a2, zI a3]) (st := [zI (0 : Int32), zP a4]) x (ci := 16) rfl (fun b => m_X1_takeFact hl (some b) a1 a2 a3) q1643 q1644 (x.2.2.2.2.1 _ q1645) q108 q1646 n_X1_takeFact ⟨by decide, by decide⟩ (Nat.le_of_ble_eq_true rfl) dX0_takeFact_7) (zv_I fun v7 => ?_) (fun q => zx_cat x [(0, s_X0_takeFact_15 E (some q), ⟨0, 12, 15, 13⟩), (6, s_X0_takeFact_19 E (some q), ⟨0, 12, 19, 22⟩)] htab (List.forall_mem_cons.mpr ⟨⟨rfl, (show (13 : Nat) ≠ 0 by decide), q1462, z_sub [] rfl (w_X0_takeFact_15 x hl hret hnm htab (some q))⟩, (List.forall_mem_cons.mpr ⟨⟨rfl, (show (22 : Nat) ≠ 0 by decide), q1642, z_sub [] rfl (w_X0_takeFact_19 x hl hret hnm htab (some q))⟩, (fun _ hj => nomatch hj)⟩)⟩))
  refine z_i2l (pc := 10) x dX0_takeFact_10 ?_
  refine z_last (pc := 11) x (t := 3) rfl dX0_takeFact_11 ?_
  refine z_goto (pc := 12) (tgt := 23) x dX0_takeFact_12 rfl ?_
  refine z_iconst (pc := 23) x (v := (0 : Int32)) dX0_takeFact_23 rfl ?_
  exact z_iret (pc := 24) x hret dX0_takeFact_24
/-! X1_requireIndex -/
def s_X1_requireIndex (E : zE) (a0 : Int32) (a1 : Int32) : zM := zC (s_X1_isBetween E a0 (0 : Int32) (a1 - (1 : Int32))) zThr (zKI (fun v5 => if v5 = 0 then (zNew 7 6 [] (fun v11 => zAth v11 zThr)) else (zRet none)))
theorem m_X1_requireIndex {l : Launch} {E : zE} {D : va_G} {tA : Nat → ClassId} (hl : l.stackTraces = false) (a0 : Int32) (a1 : Int32) : zMet l E D tA yX1_requireIndex (ws_ yX1_requireIndex cX1_requireIndex 2 (Option.none : Option Jvm.ClassFile.FieldType)) 10 (s_X1_requireIndex E a0 a1) [zI a0, zI a1] := by
  refine z_met hl (by decide +kernel) (by rw [zSl_len]; exact (Nat.le_of_ble_eq_true rfl)) fun p e R s m args below meth c k0 x hret hnm htab => ?_
  refine z_lv [(0, zI a0), (1, zI a1)] rfl ?_
  unfold s_X1_requireIndex
  refine z_iload_n (pc := 0) x 0 dX1_requireIndex_0 rfl rfl ?_
  refine z_iconst (pc := 1) x (v := (0 : Int32)) dX1_requireIndex_1 rfl ?_
  refine z_iload_n (pc := 2) x 1 dX1_requireIndex_2 rfl rfl ?_
  refine z_iconst (pc := 3) x (v := (1 : Int32)) dX1_requireIndex_3 rfl ?_
  refine z_isub (pc := 4) x dX1_requireIndex_4 ?_
  refine z_call (pc := 5) (z_canS (pc := 5) (As := [zI a0, zI (0 : Int32), zI (a1 - (1 : Int32))]) (st := []) x (m_X1_isBetween hl a0 (0 : Int32) (a1 - (1 : Int32))) q1522 q1523 q108 q1524 n_X1_isBetween ⟨by decide, by decide⟩ (Nat.le_of_ble_eq_true rfl) dX1_requireIndex_5) (zv_I fun v5 => ?_) (fun q => zx_thr x (fun z hz => (htab z hz).elim) q)
  refine z_if_ne (pc := 8) (tgt := 19) x dX1_requireIndex_8 rfl (fun _ => ?_) (fun _ => ?_)
  · refine z_exc (pc := 11) x ["java/lang/RuntimeException", "java/lang/Exception"] (by decide) (by decide +kernel) (by decide +kernel) q1705 q144 (zx_at0 x zxa_IndexOutOfBoundsException q1714) (List.all_eq_true.mp (by decide +kernel)) (ci := 7) rfl (by show 2 + 3 < _; omega) (zSum (k := 0) rfl (by show _ + (13 * (2 + 1) + 42) ≤ _; omega)) dX1_requireIndex_11 dX1_requireIndex_14 dX1_requireIndex_15 fun v11 => ?_
    exact z_athrow (pc := 18) x dX1_requireIndex_18 (fun q => zx_thr x (fun z hz => (htab z hz).elim) q)
  · exact z_vret (pc := 19) x hret dX1_requireIndex_19
/-! J2_fastRemove -/
def s_J2_fastRemove_34 (E : zE) (a0 : Option Nat) (a1 : Option Nat) (a3 : Int32) : zM := zSet E a0 10 2 (zVal (zI a3)) (zSaR E 5 1 a1 a3 none (zRet none))
theorem w_J2_fastRemove_34 (x : zCx p l R s m args meth c E D tA cJ2_fastRemove 4 yJ2_fastRemove.cls 9) (hl : l.stackTraces = false) (hret : meth.sig.returnType = (Option.none : Option Jvm.ClassFile.FieldType)) (hnm : meth.name = yJ2_fastRemove.name) (htab : ∀ z ∈ c.exceptionTable.toList, False) (a0 : Option Nat) (a1 : Option Nat) (a3 : Int32) : zW p l e R s m args below meth c E D tA 4 k0 (s_J2_fastRemove_34 E a0 a1 a3) [(0, zP a0), (1, zP a1), (3, zI a3)] 34 [] := by
  unfold s_J2_fastRemove_34
  refine z_aload_n (pc := 34) x 1 dJ2_fastRemove_34 rfl rfl ?_
  refine z_aload_n (pc := 35) x 0 dJ2_fastRemove_35 rfl rfl ?_
  refine z_iload_n (pc := 36) x 2 dJ2_fastRemove_36 rfl rfl ?_
  refine z_dup_x1 (pc := 37) x dJ2_fastRemove_37 rfl rfl ?_
  refine z_set (pc := 38) (v := zI a3) x in_J2 tyJ2 tyJ2_ok nmJ2 (ci := 10) rfl (k := 2) (by decide) q198 (fun _ h => h) rfl rfl rfl dJ2_fastRemove_38 ?_
  refine z_null (pc := 41) x dJ2_fastRemove_41 ?_
  refine z_aast (pc := 42) x (t := 5) (tg := 1) rfl rfl dJ2_fastRemove_42 ?_
  exact z_vret (pc := 43) x hret dJ2_fastRemove_43
def s_J2_fastRemove (E : zE) (a0 : Option Nat) (a1 : Option Nat) (a2 : Int32) : zM := zGetI a0 10 0 (fun v2 => zSet E a0 10 0 (zVal (zI (v2 + (1 : Int32)))) (zGetI a0 10 2 (fun v11 => if (v11 - (1 : Int32)) ≤ a2 then (s_J2_fastRemove_34 E a0 a1 (v11 - (1 : Int32))) else (zCpR E 5 1 a1 (a2 + (1 : Int32)) a1 a2 ((v11 - (1 : Int32)) - a2) (s_J2_fastRemove_34 E a0 a1 (v11 - (1 : Int32)))))))
theorem m_J2_fastRemove {l : Launch} {E : zE} {D : va_G} {tA : Nat → ClassId} (hl : l.stackTraces = false) (a0 : Option Nat) (a1 : Option Nat) (a2 : Int32) : zMet l E D tA yJ2_fastRemove (ws_ yJ2_fastRemove cJ2_fastRemove 4 (Option.none : Option Jvm.ClassFile.FieldType)) 9 (s_J2_fastRemove E a0 a1 a2) [zP a0, zP a1, zI a2] := by
  refine z_met hl (by decide +kernel) (by rw [zSl_len]; exact (Nat.le_of_ble_eq_true rfl)) fun p e R s m args below meth c k0 x hret hnm htab => ?_
  refine z_lv [(0, zP a0), (1, zP a1), (2, zI a2)] rfl ?_
  unfold s_J2_fastRemove
  refine z_aload_n (pc := 0) x 0 dJ2_fastRemove_0 rfl rfl ?_
  refine z_dup (pc := 1) x dJ2_fastRemove_1 rfl ?_
  refine z_get (pc := 2) (fun _ _ h => zAsI_eq h) x in_J2 (ci := 10) rfl (k := 0) (by decide) q202 (fun y h => u_same (x.2.2.2.2.1 _ q201) y h) dJ2_fastRemove_2 fun v2 => ?_
  refine z_iconst (pc := 5) x (v := (1 : Int32)) dJ2_fastRemove_5 rfl ?_
  refine z_iadd (pc := 6) x dJ2_fastRemove_6 ?_
  refine z_set (pc := 7) (v := zI (v2 + (1 : Int32))) x in_J2 tyJ2 tyJ2_ok nmJ2 (ci := 10) rfl (k := 0) (by decide) q202 (fun y h => u_same (x.2.2.2.2.1 _ q201) y h) rfl rfl rfl dJ2_fastRemove_7 ?_
  refine z_aload_n (pc := 10) x 0 dJ2_fastRemove_10 rfl rfl ?_
  refine z_get (pc := 11) (fun _ _ h => zAsI_eq h) x in_J2 (ci := 10) rfl (k := 2) (by decide) q198 (fun _ h => h) dJ2_fastRemove_11 fun v11 => ?_
  refine z_iconst (pc := 14) x (v := (1 : Int32)) dJ2_fastRemove_14 rfl ?_
  refine z_isub (pc := 15) x dJ2_fastRemove_15 ?_
  refine z_dup (pc := 16) x dJ2_fastRemove_16 rfl ?_
  refine z_istore_n (pc := 17) (lv' := [(3, zI (v11 - (1 : Int32))), (0, zP a0), (1, zP a1), (2, zI a2)]) x dJ2_fastRemove_17 rfl (Nat.le_of_ble_eq_true rfl) rfl ?_
  refine z_iload_n (pc := 18) x 3 dJ2_fastRemove_18 rfl rfl ?_
  refine z_icmp_le (pc := 19) (tgt := 34) x dJ2_fastRemove_19 rfl (fun _ => ?_) (fun _ => ?_)
  · exact z_sub [1, 2, 0] rfl (w_J2_fastRemove_34 x hl hret hnm htab a0 a1 (v11 - (1 : Int32)))
  · refine z_aload_n (pc := 22) x 2 dJ2_fastRemove_22 rfl rfl ?_
    refine z_iload_n (pc := 23) x 3 dJ2_fastRemove_23 rfl rfl ?_
    refine z_iconst (pc := 24) x (v := (1 : Int32)) dJ2_fastRemove_24 rfl ?_
    refine z_iadd (pc := 25) x dJ2_fastRemove_25 ?_
    refine z_aload_n (pc := 26) x 2 dJ2_fastRemove_26 rfl rfl ?_
    refine z_iload_n (pc := 27) x 3 dJ2_fastRemove_27 rfl rfl ?_
    refine z_iload_n (pc := 28) x 0 dJ2_fastRemove_28 rfl rfl ?_
    refine z_iload_n (pc := 29) x 3 dJ2_fastRemove_29 rfl rfl ?_
    refine z_isub (pc := 30) x dJ2_fastRemove_30 ?_
    refine z_cpyR (pc := 31) x (t := 5) (tg := 1) rfl rfl rfl q1507 q742 q741 q131 (by omega) (zSum (k := 0) rfl (by omega)) dJ2_fastRemove_31 ?_
    exact z_sub [1, 2, 0] rfl (w_J2_fastRemove_34 x hl hret hnm htab a0 a1 (v11 - (1 : Int32)))
/-! J2_remove -/
def s_J2_remove (E : zE) (a0 : Option Nat) (a1 : Int32) : zM := zGetI a0 10 2 (fun v2 => zC (s_J24_checkIndex E a1 v2) zThr (zKI (fun v5 => zGetR a0 10 1 (fun v10 => zGaR 5 v10 a1 (fun v16 => zC (zRv a0 [(10, fun b => s_J2_fastRemove E (some b) v10 a1)]) zThr (zKV (zRet (some (va_rf v16)))))))))
theorem m_J2_remove {l : Launch} {E : zE} {D : va_G} {tA : Nat → ClassId} (hl : l.stackTraces = false) (a0 : Option Nat) (a1 : Int32) : zMet l E D tA yJ2_remove (ws_ yJ2_remove cJ2_remove 4 (Option.some (Jvm.ClassFile.FieldType.object "java/lang/Object"))) 11 (s_J2_remove E a0 a1) [zP a0, zI a1] := by
  refine z_met hl (by decide +kernel) (by rw [zSl_len]; exact (Nat.le_of_ble_eq_true rfl)) fun p e R s m args below meth c k0 x hret hnm htab => ?_
  refine z_lv [(0, zP a0), (1, zI a1)] rfl ?_
  unfold s_J2_remove
  refine z_iload_n (pc := 0) x 1 dJ2_remove_0 rfl rfl ?_
  refine z_aload_n (pc := 1) x 0 dJ2_remove_1 rfl rfl ?_
  refine z_get (pc := 2) (fun _ _ h => zAsI_eq h) x in_J2 (ci := 10) rfl (k := 2) (by decide) q198 (fun _ h => h) dJ2_remove_2 fun v2 => ?_
  refine z_call (pc := 5) (z_canS (pc := 5) (As := [zI a1, zI v2]) (st := []) x (m_J24_checkIndex hl a1 v2) q851 q852 q141 q853 n_J24_checkIndex ⟨by decide, by decide⟩ (Nat.le_of_ble_eq_true rfl) dJ2_remove_5) (zv_I fun v5 => ?_) (fun q => zx_thr x (fun z hz => (htab z hz).elim) q)
  refine z_pop (pc := 8) x dJ2_remove_8 rfl ?_
  refine z_aload_n (pc := 9) x 0 dJ2_remove_9 rfl rfl ?_
  refine z_get (pc := 10) (fun _ _ h => zAsR_eq h) x in_J2 (ci := 10) rfl (k := 1) (by decide) q195 (fun _ h => h) dJ2_remove_10 fun v10 => ?_
  refine z_astore_n (pc := 13) (lv' := [(2, zP v10), (0, zP a0), (1, zI a1)]) x dJ2_remove_13 rfl (Nat.le_of_ble_eq_true rfl) rfl ?_
  refine z_aload_n (pc := 14) x 0 dJ2_remove_14 rfl rfl ?_
  refine z_iload_n (pc := 15) x 2 dJ2_remove_15 rfl rfl ?_
  refine z_aald (pc := 16) x (t := 5) rfl rfl dJ2_remove_16 fun v16 => ?_
  refine z_astore_n (pc := 17) (lv' := [(3, zP v16), (2, zP v10), (0, zP a0), (1, zI a1)]) x dJ2_remove_17 rfl (Nat.le_of_ble_eq_true rfl) rfl ?_
  refine z_aload_n (pc := 18) x 2 dJ2_remove_18 rfl rfl ?_
  refine z_aload_n (pc := 19) x 1 dJ2_remove_19 rfl rfl ?_
  refine z_iload_n (pc := 20) x 3 dJ2_remove_20 rfl rfl ?_
  refine z_call (pc := 21) (z_canV (pc := 21) (As := [zP v10, zI a1]) (st := []) x (ci := 10) rfl (fun b => m_J2_fastRemove hl (some b) v10 a1) q1729 q1731 (z_selP x (ci := 10) rfl (by decide) (zNi_inst x q182) q1730 q1731) q112 q1732 n_J2_fastRemove ⟨by decide, by decide⟩ (Nat.le_of_ble_eq_true rfl) dJ2_remove_21) (zv_V ?_) (fun q => zx_thr x (fun z hz => (htab z hz).elim) q)
  refine z_aload_n (pc := 24) x 0 dJ2_remove_24 rfl rfl ?_
  exact z_aret (pc := 25) x hret (Or.inl ⟨_, rfl⟩) dJ2_remove_25
/-! X2_dropRule -/
def s_X2_dropRule (E : zE) (a0 : Option Nat) (a1 : Int32) : zM := zGetR a0 26 1 (fun v2 => zC (zRv v2 [(10, fun b => s_J2_size E (some b))]) zThr (zKI (fun v5 => zC (s_X1_requireIndex E a1 v5) zThr (zKV (zGetR a0 26 1 (fun v14 => zC (zRv v14 [(10, fun b => s_J2_remove E (some b) a1)]) zThr (zKR (fun v18 => zCsS 31 v18 (zSet E a0 26 3 (zVal (zP none)) (zGetR a0 26 1 (fun v33 => zC (zRv v33 [(10, fun b => s_J2_size E (some b))]) zThr (zKI (fun v36 => zRet (some (.int v36)))))))))))))))
theorem m_X2_dropRule {l : Launch} {E : zE} {D : va_G} {tA : Nat → ClassId} (hl : l.stackTraces = false) (a0 : Option Nat) (a1 : Int32) : zMet l E D tA yX2_dropRule (ws_ yX2_dropRule cX2_dropRule 3 (Option.some Jvm.ClassFile.FieldType.int)) 12 (s_X2_dropRule E a0 a1) [zP a0, zI a1] := by
  refine z_met hl (by decide +kernel) (by rw [zSl_len]; exact (Nat.le_of_ble_eq_true rfl)) fun p e R s m args below meth c k0 x hret hnm htab => ?_
  refine z_lv [(0, zP a0), (1, zI a1)] rfl ?_
  unfold s_X2_dropRule
  refine z_iload_n (pc := 0) x 1 dX2_dropRule_0 rfl rfl ?_
  refine z_aload_n (pc := 1) x 0 dX2_dropRule_1 rfl rfl ?_
  refine z_get (pc := 2) (fun _ _ h => zAsR_eq h) x in_X2 (ci := 26) rfl (k := 1) (by decide) q252 (fun _ h => h) dX2_dropRule_2 fun v2 => ?_
  refine z_call (pc := 5) (z_canIF (pc := 5) (As := []) (st := [zI a1]) (x9 := ⟨"java/util/List", "size", "()I"⟩) x (ci := 10) rfl (fun b => m_J2_size hl (some b)) q1701 q767 q766 (by decide) q768 q770 q771 q769 q384 q112 q772 nx_java_util_List_size___I ⟨by decide, by decide⟩ (Nat.le_of_ble_eq_true rfl) dX2_dropRule_5) (zv_I fun v5 => ?_) (fun q => zx_thr x (fun z hz => (htab z hz).elim) q)
  refine z_call (pc := 10) (z_canSN (pc := 10) (As := [zI a1, zI v5]) (st := []) x (m_X1_requireIndex hl a1 v5) q1702 q1703 q108 q1704 n_X1_requireIndex ⟨by decide, by decide⟩ (Nat.le_of_ble_eq_true rfl) dX2_dropRule_10) (zv_V ?_) (fun q => zx_thr x (fun z hz => (htab z hz).elim) q)
  refine z_aload_n (pc := 13) x 0 dX2_dropRule_13 rfl rfl ?_
  refine z_get (pc := 14) (fun _ _ h => zAsR_eq h) x in_X2 (ci := 26) rfl (k := 1) (by decide) q252 (fun _ h => h) dX2_dropRule_14 fun v14 => ?_
  refine z_iload_n (pc := 17) x 1 dX2_dropRule_17 rfl rfl ?_
  refine z_call (pc := 18) (z_canIF (pc := 18) (As := [zI a1]) (st := []) (x9 := ⟨"java/util/List", "remove", "(I)Ljava/lang/Object;"⟩) x (ci := 10) rfl (fun b => m_J2_remove hl (some b) a1) q1721 q1723 q1722 (by decide) q1724 q1726 q1727 q1725 q384 q112 q1728 nx_java_util_List_remove__I_Ljava_lang_Object_ ⟨by decide, by decide⟩ (Nat.le_of_ble_eq_true rfl) dX2_dropRule_18) (zv_R fun v18 => ?_) (fun q => zx_thr x (fun z hz => (htab z hz).elim) q)
  refine z_csS (pc := 23) x (ci := 31) rfl q656 dX2_dropRule_23 ?_
  refine z_astore_n (pc := 26) (lv' := [(2, zP v18), (0, zP a0), (1, zI a1)]) x dX2_dropRule_26 rfl (Nat.le_of_ble_eq_true rfl) rfl ?_
  refine z_aload_n (pc := 27) x 1 dX2_dropRule_27 rfl rfl ?_
  refine z_null (pc := 28) x dX2_dropRule_28 ?_
  refine z_set (pc := 29) (v := zP none) x in_X2 tyX2 tyX2_ok nmX2 (ci := 26) rfl (k := 3) (by decide) q258 (fun _ h => h) rfl (zfitR rfl _).1 (zfitR rfl _).2 dX2_dropRule_29 ?_
  refine z_aload_n (pc := 32) x 1 dX2_dropRule_32 rfl rfl ?_
  refine z_get (pc := 33) (fun _ _ h => zAsR_eq h) x in_X2 (ci := 26) rfl (k := 1) (by decide) q252 (fun _ h => h) dX2_dropRule_33 fun v33 => ?_
  refine z_call (pc := 36) (z_canIF (pc := 36) (As := []) (st := []) (x9 := ⟨"java/util/List", "size", "()I"⟩) x (ci := 10) rfl (fun b => m_J2_size hl (some b)) q1701 q767 q766 (by decide) q768 q770 q771 q769 q384 q112 q772 nx_java_util_List_size___I ⟨by decide, by decide⟩ (Nat.le_of_ble_eq_true rfl) dX2_dropRule_36) (zv_I fun v36 => ?_) (fun q => zx_thr x (fun z hz => (htab z hz).elim) q)
  exact z_iret (pc := 41) x hret dX2_dropRule_41
/-! X1_dropRule -/
def s_X1_dropRule (E : zE) (a0 : Option Nat) (a1 : Int32) : zM := zNew 26 4 [.null, .null, .null, .null] (fun v0 => zGetR a0 16 0 (fun v5 => zC (zSp v0 (fun b => s_X2_init_2 E (some b) v5)) zThr (zKV (zC (zRv v0 [(26, fun b => s_X2_dropRule E (some b) a1)]) zThr (zKI (fun v14 => zC (zRv a0 [(16, fun b => s_X1_replaceLogic E (some b) v0)]) zThr (zKV (zRet (some (.int v14))))))))))
theorem m_X1_dropRule {l : Launch} {E : zE} {D : va_G} {tA : Nat → ClassId} (hl : l.stackTraces = false) (a0 : Option Nat) (a1 : Int32) : zMet l E D tA yX1_dropRule (ws_ yX1_dropRule cX1_dropRule 4 (Option.some Jvm.ClassFile.FieldType.int)) 14 (s_X1_dropRule E a0 a1) [zP a0, zI a1] := by
  refine z_met hl (by decide +kernel) (by rw [zSl_len]; exact (Nat.le_of_ble_eq_true rfl)) fun p e R s m args below meth c k0 x hret hnm htab => ?_
  refine z_lv [(0, zP a0), (1, zI a1)] rfl ?_
  unfold s_X1_dropRule
  refine z_new (pc := 0) x in_X2 tyX2 tyX2_ok q175 q176 q109 (ci := 26) rfl (by decide) (by decide +kernel) dX1_dropRule_0 fun v0 => ?_
  refine z_dup (pc := 3) x dX1_dropRule_3 rfl ?_
  refine z_aload_n (pc := 4) x 0 dX1_dropRule_4 rfl rfl ?_
  refine z_get (pc := 5) (fun _ _ h => zAsR_eq h) x in_X1 (ci := 16) rfl (k := 0) (by decide) q320 (fun _ h => h) dX1_dropRule_5 fun v5 => ?_
  refine z_call (pc := 8) (z_canI (pc := 8) (ret := none) (As := [zP v5]) (st := [zP v0]) x (fun b => m_X2_init_2 hl (some b) v5) q1469 rfl q1470 q109 q1471 n_X2_init_2 ⟨by decide, by decide⟩ (Nat.le_of_ble_eq_true rfl) dX1_dropRule_8) (zv_V ?_) (fun q => zx_thr x (fun z hz => (htab z hz).elim) q)
  refine z_astore_n (pc := 11) (lv' := [(2, zP v0), (0, zP a0), (1, zI a1)]) x dX1_dropRule_11 rfl (Nat.le_of_ble_eq_true rfl) rfl ?_
  refine z_aload_n (pc := 12) x 0 dX1_dropRule_12 rfl rfl ?_
  refine z_iload_n (pc := 13) x 2 dX1_dropRule_13 rfl rfl ?_
  refine z_call (pc := 14) (z_canV (pc := 14) (As := [zI a1]) (st := []) x (ci := 26) rfl (fun b => m_X2_dropRule hl (some b) a1) q1696 q1697 (x.2.2.2.2.1 _ q1698) q109 q1699 n_X2_dropRule ⟨by decide, by decide⟩ (Nat.le_of_ble_eq_true rfl) dX1_dropRule_14) (zv_I fun v14 => ?_) (fun q => zx_thr x (fun z hz => (htab z hz).elim) q)
  refine z_istore_n (pc := 17) (lv' := [(3, zI v14), (2, zP v0), (0, zP a0), (1, zI a1)]) x dX1_dropRule_17 rfl (Nat.le_of_ble_eq_true rfl) rfl ?_
  refine z_aload_n (pc := 18) x 2 dX1_dropRule_18 rfl rfl ?_
  refine z_aload_n (pc := 19) x 1 dX1_dropRule_19 rfl rfl ?_
  refine z_call (pc := 20) (z_canV (pc := 20) (As := [zP v0]) (st := []) x (ci := 16) rfl (fun b => m_X1_replaceLogic hl (some b) v0) q1575 q1577 (z_selP x (ci := 16) rfl (by decide) (zNi_inst x q168) q1576 q1577) q108 q1578 n_X1_replaceLogic ⟨by decide, by decide⟩ (Nat.le_of_ble_eq_true rfl) dX1_dropRule_20) (zv_V ?_) (fun q => zx_thr x (fun z hz => (htab z hz).elim) q)
  refine z_iload_n (pc := 23) x 0 dX1_dropRule_23 rfl rfl ?_
  exact z_iret (pc := 24) x hret dX1_dropRule_24
/-! X0_dropRule -/
def s_X0_dropRule_12 (E : zE) (b0 : Option Nat) : zM := zRet (some (.int (1 : Int32)))
theorem w_X0_dropRule_12 (x : zCx p l R s m args meth c E D tA cX0_dropRule 4 yX0_dropRule.cls 15) (hl : l.stackTraces = false) (hret : meth.sig.returnType = (Option.some Jvm.ClassFile.FieldType.int)) (hnm : meth.name = yX0_dropRule.name) (htab : c.exceptionTable.toList = tableOf [(0, 9, 12, 28)]) (b0 : Option Nat) : zW p l e R s m args below meth c E D tA 4 k0 (s_X0_dropRule_12 E b0) [] 12 [zP b0] := by
  unfold s_X0_dropRule_12
  refine z_astore_n (pc := 12) (lv' := [(3, zP b0)]) x dX0_dropRule_12 rfl (Nat.le_of_ble_eq_true rfl) rfl ?_
  refine z_iconst (pc := 13) x (v := (1 : Int32)) dX0_dropRule_13 rfl ?_
  exact z_iret (pc := 14) x hret dX0_dropRule_14
def s_X0_dropRule (E : zE) (a0 : Option Nat) (a1 : Int32) (a2 : Option Nat) : zM := zC (zRv a0 [(16, fun b => s_X1_dropRule E (some b) a1)]) (fun q => zCat1 q [(8, s_X0_dropRule_12 E (some q))]) (zKI (fun v4 => zSaL E 3 a2 (0 : Int32) ((v4).toInt64) (zRet (some (.int (0 : Int32))))))
theorem m_X0_dropRule {l : Launch} {E : zE} {D : va_G} {tA : Nat → ClassId} (hl : l.stackTraces = false) (a0 : Option Nat) (a1 : Int32) (a2 : Option Nat) : zMet l E D tA yX0_dropRule (wsW_ yX0_dropRule cX0_dropRule 4 (Option.some Jvm.ClassFile.FieldType.int) [(0, 9, 12, 28)]) 15 (s_X0_dropRule E a0 a1 a2) [zP a0, zI a1, zP a2] := by
  refine z_metW hl (by decide +kernel) (by rw [zSl_len]; exact (Nat.le_of_ble_eq_true rfl)) fun p e R s m args below meth c k0 x hret hnm htab => ?_
  refine z_lv [(0, zP a0), (1, zI a1), (2, zP a2)] rfl ?_
  unfold s_X0_dropRule
  refine z_aload_n (pc := 0) x 2 dX0_dropRule_0 rfl rfl ?_
  refine z_iconst (pc := 1) x (v := (0 : Int32)) dX0_dropRule_1 rfl ?_
  refine z_aload_n (pc := 2) x 0 dX0_dropRule_2 rfl rfl ?_
  refine z_iload_n (pc := 3) x 1 dX0_dropRule_3 rfl rfl ?_
  refine z_call (pc := 4) (z_canV (pc := 4) (As := [zI a1]) (st := [zI (0 : Int32), zP a2]) x (ci := 16) rfl (fun b => m_X1_dropRule hl (some b) a1) q1692 q1693 (x.2.2.2.2.1 _ q1694) q108 q1695 n_X1_dropRule ⟨by decide, by decide⟩ (Nat.le_of_ble_eq_true rfl) dX0_dropRule_4) (zv_I fun v4 => ?_) (fun q => zx_cat x [(8, s_X0_dropRule_12 E (some q), ⟨0, 9, 12, 28⟩)] htab (List.forall_mem_cons.mpr ⟨⟨rfl, (show (28 : Nat) ≠ 0 by decide), q1673, z_sub [] rfl (w_X0_dropRule_12 x hl hret hnm htab (some q))⟩, (fun _ hj => nomatch hj)⟩))
  refine z_i2l (pc := 7) x dX0_dropRule_7 ?_
  refine z_last (pc := 8) x (t := 3) rfl dX0_dropRule_8 ?_
  refine z_goto (pc := 9) (tgt := 15) x dX0_dropRule_9 rfl ?_
  refine z_iconst (pc := 15) x (v := (0 : Int32)) dX0_dropRule_15 rfl ?_
  exact z_iret (pc := 16) x hret dX0_dropRule_16
/-! X1_isGiven -/
def s_X1_isGiven (E : zE) (a0 : Option Nat) (a1 : Int32) (a2 : Int32) (a3 : Int32) : zM := zC (s_X1_requireCode E a1 a2 a3) zThr (zKI (fun v3 => zGetR a0 16 0 (fun v9 => zGetR v9 26 0 (fun v12 => zC (zRv v12 [(32, fun b => s_X4_has E (some b) (a1 - (97 : Int32)) v3)]) zThr (zKI (fun v21 => zRetN .boolean v21))))))
theorem m_X1_isGiven {l : Launch} {E : zE} {D : va_G} {tA : Nat → ClassId} (hl : l.stackTraces = false) (a0 : Option Nat) (a1 : Int32) (a2 : Int32) (a3 : Int32) : zMet l E D tA yX1_isGiven (ws_ yX1_isGiven cX1_isGiven 5 (Option.some Jvm.ClassFile.FieldType.boolean)) 12 (s_X1_isGiven E a0 a1 a2 a3) [zP a0, zI a1, zI a2, zI a3] := by
  refine z_met hl (by decide +kernel) (by rw [zSl_len]; exact (Nat.le_of_ble_eq_true rfl)) fun p e R s m args below meth c k0 x hret hnm htab => ?_
  refine z_lv [(0, zP a0), (1, zI a1), (2, zI a2), (3, zI a3)] rfl ?_
  unfold s_X1_isGiven
  refine z_iload_n (pc := 0) x 1 dX1_isGiven_0 rfl rfl ?_
  refine z_iload_n (pc := 1) x 2 dX1_isGiven_1 rfl rfl ?_
  refine z_iload_n (pc := 2) x 3 dX1_isGiven_2 rfl rfl ?_
  refine z_call (pc := 3) (z_canS (pc := 3) (As := [zI a1, zI a2, zI a3]) (st := []) x (m_X1_requireCode hl a1 a2 a3) q1740 q1517 q108 q1518 n_X1_requireCode ⟨by decide, by decide⟩ (Nat.le_of_ble_eq_true rfl) dX1_isGiven_3) (zv_I fun v3 => ?_) (fun q => zx_thr x (fun z hz => (htab z hz).elim) q)
  refine z_istore (pc := 6) (lv' := [(4, zI v3), (0, zP a0), (1, zI a1), (2, zI a2), (3, zI a3)]) x dX1_isGiven_6 (Nat.le_of_ble_eq_true rfl) rfl ?_
  refine z_aload_n (pc := 8) x 1 dX1_isGiven_8 rfl rfl ?_
  refine z_get (pc := 9) (fun _ _ h => zAsR_eq h) x in_X1 (ci := 16) rfl (k := 0) (by decide) q320 (fun _ h => h) dX1_isGiven_9 fun v9 => ?_
  refine z_getN (pc := 12) (fun _ _ h => zAsR_eq h) x in_X2 (ci := 26) rfl (k := 0) (by decide) q251 (fun _ h => h) dX1_isGiven_12 fun v12 => ?_
  refine z_iload_n (pc := 15) x 2 dX1_isGiven_15 rfl rfl ?_
  refine z_bipush (pc := 16) x (v := (97 : Int32)) dX1_isGiven_16 rfl ?_
  refine z_isub (pc := 18) x dX1_isGiven_18 ?_
  refine z_iload (pc := 19) x 0 dX1_isGiven_19 rfl ?_
  refine z_call (pc := 21) (z_canV (pc := 21) (As := [zI (a1 - (97 : Int32)), zI v3]) (st := []) x (ci := 32) rfl (fun b => m_X4_has hl (some b) (a1 - (97 : Int32)) v3) q1741 q814 (x.2.2.2.2.1 _ q815) q114 q816 n_X4_has ⟨by decide, by decide⟩ (Nat.le_of_ble_eq_true rfl) dX1_isGiven_21) (zv_I fun v21 => ?_) (fun q => zx_thr x (fun z hz => (htab z hz).elim) q)
  exact z_zret (pc := 24) x hret dX1_isGiven_24
/-! X0_isGiven -/
def s_X0_isGiven_18 (E : zE) (b0 : Option Nat) (b1 : Int32) (b2 : Int64) : zM := zSaL E 3 b0 b1 b2 (zRet (some (.int (0 : Int32))))
theorem w_X0_isGiven_18 (x : zCx p l R s m args meth c E D tA cX0_isGiven 6 yX0_isGiven.cls 13) (hl : l.stackTraces = false) (hret : meth.sig.returnType = (Option.some Jvm.ClassFile.FieldType.int)) (hnm : meth.name = yX0_isGiven.name) (htab : c.exceptionTable.toList = tableOf [(0, 19, 22, 13)]) (b0 : Option Nat) (b1 : Int32) (b2 : Int64) : zW p l e R s m args below meth c E D tA 6 k0 (s_X0_isGiven_18 E b0 b1 b2) [] 18 [zL b2, zI b1, zP b0] := by
  unfold s_X0_isGiven_18
  refine z_last (pc := 18) x (t := 3) rfl dX0_isGiven_18 ?_
  refine z_goto (pc := 19) (tgt := 26) x dX0_isGiven_19 rfl ?_
  refine z_iconst (pc := 26) x (v := (0 : Int32)) dX0_isGiven_26 rfl ?_
  exact z_iret (pc := 27) x hret dX0_isGiven_27
def s_X0_isGiven_22 (E : zE) (b0 : Option Nat) : zM := zRet (some (.int (1 : Int32)))
theorem w_X0_isGiven_22 (x : zCx p l R s m args meth c E D tA cX0_isGiven 6 yX0_isGiven.cls 13) (hl : l.stackTraces = false) (hret : meth.sig.returnType = (Option.some Jvm.ClassFile.FieldType.int)) (hnm : meth.name = yX0_isGiven.name) (htab : c.exceptionTable.toList = tableOf [(0, 19, 22, 13)]) (b0 : Option Nat) : zW p l e R s m args below meth c E D tA 6 k0 (s_X0_isGiven_22 E b0) [] 22 [zP b0] := by
  unfold s_X0_isGiven_22
  refine z_astore (pc := 22) (lv' := [(5, zP b0)]) x dX0_isGiven_22 (Nat.le_of_ble_eq_true rfl) rfl ?_
  refine z_iconst (pc := 24) x (v := (1 : Int32)) dX0_isGiven_24 rfl ?_
  exact z_iret (pc := 25) x hret dX0_isGiven_25
def s_X0_isGiven (E : zE) (a0 : Option Nat) (a1 : Int32) (a2 : Int32) (a3 : Int32) (a4 : Option Nat) : zM := zC (zRv a0 [(16, fun b => s_X1_isGiven E (some b) a1 a2 a3)]) (fun q => zCat1 q [(0, s_X0_isGiven_22 E (some q))]) (zKI (fun v7 => if v7 = 0 then (s_X0_isGiven_18 E a4 (0 : Int32) (0 : Int64)) else (s_X0_isGiven_18 E a4 (0 : Int32) (1 : Int64))))
theorem m_X0_isGiven {l : Launch} {E : zE} {D : va_G} {tA : Nat → ClassId} (hl : l.stackTraces = false) (a0 : Option Nat) (a1 : Int32) (a2 : Int32) (a3 : Int32) (a4 : Option Nat) : zMet l E D tA yX0_isGiven (wsW_ yX0_isGiven cX0_isGiven 6 (Option.some Jvm.ClassFile.FieldType.int) [(0, 19, 22, 13)]) 13 (s_X0_isGiven E a0 a1 a2 a3 a4) [zP a0, zI a1, zI a2, zI a3, zP a4] := by
  refine z_metW hl (by decide +kernel) (by rw [zSl_len]; exact (Nat.le_of_ble_eq_true rfl)) fun p e R s m args below meth c k0 x hret hnm htab => ?_
  refine z_lv [(0, zP a0), (1, zI a1), (2, zI a2), (3, zI a3), (4, zP a4)] rfl ?_
  unfold s_X0_isGiven
  refine z_aload (pc := 0) x 4 dX0_isGiven_0 rfl ?_
  refine z_iconst (pc := 2) x (v := (0 : Int32)) dX0_isGiven_2 rfl ?_
  refine z_aload_n (pc := 3) x 0 dX0_isGiven_3 rfl rfl ?_
  refine z_iload_n (pc := 4) x 1 dX0_isGiven_4 rfl rfl ?_
  refine z_iload_n (pc := 5) x 2 dX0_isGiven_5 rfl rfl ?_
  refine z_iload_n (pc := 6) x 3 dX0_isGiven_6 rfl rfl ?_
  refine z_call (pc := 7) (z_canV (pc := 7) (As := [zI a1, zI a2, zI a3]) (st := [zI (0 : Int32), zP a4]) x (ci := 16) rfl (fun b => m_X1_isGiven hl (some b) a1 a2 a3) q1736 q1737 (x.2.2.2.2.1 _ q1738) q108 q1739 n_X1_isGiven ⟨by decide, by decide⟩ (Nat.le_of_ble_eq_true rfl) dX0_isGiven_7) (zv_I fun v7 => ?_) (fun q => zx_cat x [(0, s_X0_isGiven_22 E (some q), ⟨0, 19, 22, 13⟩)] htab (List.forall_mem_cons.mpr ⟨⟨rfl, (show (13 : Nat) ≠ 0 by decide), q1462, z_sub [] rfl (w_X0_isGiven_22 x hl hret hnm htab (some q))⟩, (fun _ hj => nomatch hj)⟩))
  refine z_if_eq (pc := 10) (tgt := 17) x dX0_isGiven_10 rfl (fun _ => ?_) (fun _ => ?_)
  · refine z_lconst (pc := 17) x (v := (0 : Int64)) dX0_isGiven_17 rfl ?_
    exact z_sub [] rfl (w_X0_isGiven_18 x hl hret hnm htab a4 (0 : Int32) (0 : Int64))
  · refine z_lconst (pc := 13) x (v := (1 : Int64)) dX0_isGiven_13 rfl ?_
    refine z_goto (pc := 14) (tgt := 18) x dX0_isGiven_14 rfl ?_
    exact z_sub [] rfl (w_X0_isGiven_18 x hl hret hnm htab a4 (0 : Int32) (1 : Int64))
/-! X1_isTrue -/
def s_X1_isTrue (E : zE) (a0 : Option Nat) (a1 : Int32) (a2 : Int32) (a3 : Int32) : zM := zC (s_X1_requireCode E a1 a2 a3) zThr (zKI (fun v3 => zGetR a0 16 0 (fun v9 => zC (zRv v9 [(26, fun b => s_X2_facts E (some b))]) zThr (zKR (fun v12 => zC (zRv v12 [(32, fun b => s_X4_has E (some b) (a1 - (97 : Int32)) v3)]) zThr (zKI (fun v21 => zRetN .boolean v21)))))))
theorem m_X1_isTrue {l : Launch} {E : zE} {D : va_G} {tA : Nat → ClassId} (hl : l.stackTraces = false) (a0 : Option Nat) (a1 : Int32) (a2 : Int32) (a3 : Int32) : zMet l E D tA yX1_isTrue (ws_ yX1_isTrue cX1_isTrue 5 (Option.some Jvm.ClassFile.FieldType.boolean)) 73 (s_X1_isTrue E a0 a1 a2 a3) [zP a0, zI a1, zI a2, zI a3] := by
  refine z_met hl (by decide +kernel) (by rw [zSl_len]; exact (Nat.le_of_ble_eq_true rfl)) fun p e R s m args below meth c k0 x hret hnm htab => ?_
  refine z_lv [(0, zP a0), (1, zI a1), (2, zI a2), (3, zI a3)] rfl ?_
  unfold s_X1_isTrue
  refine z_iload_n (pc := 0) x 1 dX1_isTrue_0 rfl rfl ?_
  refine z_iload_n (pc := 1) x 2 dX1_isTrue_1 rfl rfl ?_
  refine z_iload_n (pc := 2) x 3 dX1_isTrue_2 rfl rfl ?_
  refine z_call (pc := 3) (z_canS (pc := 3) (As := [zI a1, zI a2, zI a3]) (st := []) x (m_X1_requireCode hl a1 a2 a3) q1740 q1517 q108 q1518 n_X1_requireCode ⟨by decide, by decide⟩ (Nat.le_of_ble_eq_true rfl) dX1_isTrue_3) (zv_I fun v3 => ?_) (fun q => zx_thr x (fun z hz => (htab z hz).elim) q)
  refine z_istore (pc := 6) (lv' := [(4, zI v3), (0, zP a0), (1, zI a1), (2, zI a2), (3, zI a3)]) x dX1_isTrue_6 (Nat.le_of_ble_eq_true rfl) rfl ?_
  refine z_aload_n (pc := 8) x 1 dX1_isTrue_8 rfl rfl ?_
  refine z_get (pc := 9) (fun _ _ h => zAsR_eq h) x in_X1 (ci := 16) rfl (k := 0) (by decide) q320 (fun _ h => h) dX1_isTrue_9 fun v9 => ?_
  refine z_call (pc := 12) (z_canV (pc := 12) (As := []) (st := []) x (ci := 26) rfl (fun b => m_X2_facts hl (some b)) q368 q369 (x.2.2.2.2.1 _ q370) q109 q371 n_X2_facts ⟨by decide, by decide⟩ (Nat.le_of_ble_eq_true rfl) dX1_isTrue_12) (zv_R fun v12 => ?_) (fun q => zx_thr x (fun z hz => (htab z hz).elim) q)
  refine z_iload_n (pc := 15) x 2 dX1_isTrue_15 rfl rfl ?_
  refine z_bipush (pc := 16) x (v := (97 : Int32)) dX1_isTrue_16 rfl ?_
  refine z_isub (pc := 18) x dX1_isTrue_18 ?_
  refine z_iload (pc := 19) x 0 dX1_isTrue_19 rfl ?_
  refine z_call (pc := 21) (z_canV (pc := 21) (As := [zI (a1 - (97 : Int32)), zI v3]) (st := []) x (ci := 32) rfl (fun b => m_X4_has hl (some b) (a1 - (97 : Int32)) v3) q1741 q814 (x.2.2.2.2.1 _ q815) q114 q816 n_X4_has ⟨by decide, by decide⟩ (Nat.le_of_ble_eq_true rfl) dX1_isTrue_21) (zv_I fun v21 => ?_) (fun q => zx_thr x (fun z hz => (htab z hz).elim) q)
  exact z_zret (pc := 24) x hret dX1_isTrue_24
/-! X0_isTrue -/
def s_X0_isTrue_18 (E : zE) (b0 : Option Nat) (b1 : Int32) (b2 : Int64) : zM := zSaL E 3 b0 b1 b2 (zRet (some (.int (0 : Int32))))
theorem w_X0_isTrue_18 (x : zCx p l R s m args meth c E D tA cX0_isTrue 6 yX0_isTrue.cls 74) (hl : l.stackTraces = false) (hret : meth.sig.returnType = (Option.some Jvm.ClassFile.FieldType.int)) (hnm : meth.name = yX0_isTrue.name) (htab : c.exceptionTable.toList = tableOf [(0, 19, 22, 13)]) (b0 : Option Nat) (b1 : Int32) (b2 : Int64) : zW p l e R s m args below meth c E D tA 6 k0 (s_X0_isTrue_18 E b0 b1 b2) [] 18 [zL b2, zI b1, zP b0] := by
  unfold s_X0_isTrue_18
  refine z_last (pc := 18) x (t := 3) rfl dX0_isTrue_18 ?_
  refine z_goto (pc := 19) (tgt := 26) x dX0_isTrue_19 rfl ?_
  refine z_iconst (pc := 26) x (v := (0 : Int32)) dX0_isTrue_26 rfl ?_
  exact z_iret (pc := 27) x hret dX0_isTrue_27
def s_X0_isTrue_22 (E : zE) (b0 : Option Nat) : zM := zRet (some (.int (1 : Int32)))
theorem w_X0_isTrue_22 (x : zCx p l R s m args meth c E D tA cX0_isTrue 6 yX0_isTrue.cls 74) (hl : l.stackTraces = false) (hret : meth.sig.returnType = (Option.some Jvm.ClassFile.FieldType.int)) (hnm : meth.name = yX0_isTrue.name) (htab : c.exceptionTable.toList = tableOf [(0, 19, 22, 13)]) (b0 : Option Nat) : zW p l e R s m args below meth c E D tA 6 k0 (s_X0_isTrue_22 E b0) [] 22 [zP b0] := by
  unfold s_X0_isTrue_22
  refine z_astore (pc := 22) (lv' := [(5, zP b0)]) x dX0_isTrue_22 (Nat.le_of_ble_eq_true rfl) rfl ?_
  refine z_iconst (pc := 24) x (v := (1 : Int32)) dX0_isTrue_24 rfl ?_
  exact z_iret (pc := 25) x hret dX0_isTrue_25
def s_X0_isTrue (E : zE) (a0 : Option Nat) (a1 : Int32) (a2 : Int32) (a3 : Int32) (a4 : Option Nat) : zM := zC (zRv a0 [(16, fun b => s_X1_isTrue E (some b) a1 a2 a3)]) (fun q => zCat1 q [(0, s_X0_isTrue_22 E (some q))]) (zKI (fun v7 => if v7 = 0 then (s_X0_isTrue_18 E a4 (0 : Int32) (0 : Int64)) else (s_X0_isTrue_18 E a4 (0 : Int32) (1 : Int64))))
theorem m_X0_isTrue {l : Launch} {E : zE} {D : va_G} {tA : Nat → ClassId} (hl : l.stackTraces = false) (a0 : Option Nat) (a1 : Int32) (a2 : Int32) (a3 : Int32) (a4 : Option Nat) : zMet l E D tA yX0_isTrue (wsW_ yX0_isTrue cX0_isTrue 6 (Option.some Jvm.ClassFile.FieldType.int) [(0, 19, 22, 13)]) 74 (s_X0_isTrue E a0 a1 a2 a3 a4) [zP a0, zI a1, zI a2, zI a3, zP a4] := by
  refine z_metW hl (by decide +kernel) (by rw [zSl_len]; exact (Nat.le_of_ble_eq_true rfl)) fun p e R s m args below meth c k0 x hret hnm htab => ?_
  refine z_lv [(0, zP a0), (1, zI a1), (2, zI a2), (3, zI a3), (4, zP a4)] rfl ?_
  unfold s_X0_isTrue
  refine z_aload (pc := 0) x 4 dX0_isTrue_0 rfl ?_
  refine z_iconst (pc := 2) x (v := (0 : Int32)) dX0_isTrue_2 rfl ?_
  refine z_aload_n (pc := 3) x 0 dX0_isTrue_3 rfl rfl ?_
  refine z_iload_n (pc := 4) x 1 dX0_isTrue_4 rfl rfl ?_
  refine z_iload_n (pc := 5) x 2 dX0_isTrue_5 rfl rfl ?_
  refine z_iload_n (pc := 6) x 3 dX0_isTrue_6 rfl rfl ?_
  refine z_call (pc := 7) (z_canV (pc := 7) (As := [zI a1, zI a2, zI a3]) (st := [zI (0 : Int32), zP a4]) x (ci := 16) rfl (fun b => m_X1_isTrue hl (some b) a1 a2 a3) q1745 q1746 (x.2.2.2.2.1 _ q1747) q108 q1748 n_X1_isTrue ⟨by decide, by decide⟩ (Nat.le_of_ble_eq_true rfl) dX0_isTrue_7) (zv_I fun v7 => ?_) (fun q => zx_cat x [(0, s_X0_isTrue_22 E (some q), ⟨0, 19, 22, 13⟩)] htab (List.forall_mem_cons.mpr ⟨⟨rfl, (show (13 : Nat) ≠ 0 by decide), q1462, z_sub [] rfl (w_X0_isTrue_22 x hl hret hnm htab (some q))⟩, (fun _ hj => nomatch hj)⟩))
  refine z_if_eq (pc := 10) (tgt := 17) x dX0_isTrue_10 rfl (fun _ => ?_) (fun _ => ?_)
  · refine z_lconst (pc := 17) x (v := (0 : Int64)) dX0_isTrue_17 rfl ?_
    exact z_sub [] rfl (w_X0_isTrue_18 x hl hret hnm htab a4 (0 : Int32) (0 : Int64))
  · refine z_lconst (pc := 13) x (v := (1 : Int64)) dX0_isTrue_13 rfl ?_
    refine z_goto (pc := 14) (tgt := 18) x dX0_isTrue_14 rfl ?_
    exact z_sub [] rfl (w_X0_isTrue_18 x hl hret hnm htab a4 (0 : Int32) (1 : Int64))
/-! X10_init -/
def s_X10_init (E : zE) (a0 : Option Nat) : zM := zSp a0 (fun _ => zRet none)
theorem m_X10_init {l : Launch} {E : zE} {D : va_G} {tA : Nat → ClassId} (hl : l.stackTraces = false) (a0 : Option Nat) : zMet l E D tA yX10_init (ws_ yX10_init cX10_init 1 (Option.none : Option Jvm.ClassFile.FieldType)) 9 (s_X10_init E a0) [zP a0] := by
  refine z_met hl (by decide +kernel) (by rw [zSl_len]; exact (Nat.le_of_ble_eq_true rfl)) fun p e R s m args below meth c k0 x hret hnm htab => ?_
  refine z_lv [(0, zP a0)] rfl ?_
  unfold s_X10_init
  refine z_aload_n (pc := 0) x 0 dX10_init_0 rfl rfl ?_
  refine z_objInit (pc := 1) x q909 q173 q174 (by omega) (zSum (k := 0) rfl (by omega)) dX10_init_1 ?_
  exact z_vret (pc := 4) x hret dX10_init_4
/-! X11_init -/
def s_X11_init (E : zE) (a0 : Option Nat) (a1 : Option Nat) : zM := zC (zSp a0 (fun b => s_X10_init E (some b))) zThr (zKV (zNew 32 1 [.null] (fun v5 => zC (zSp v5 (fun b => s_X4_init_2 E (some b) a1)) zThr (zKV (zSet E a0 17 0 (zVal (zP v5)) (zRet none))))))
theorem m_X11_init {l : Launch} {E : zE} {D : va_G} {tA : Nat → ClassId} (hl : l.stackTraces = false) (a0 : Option Nat) (a1 : Option Nat) : zMet l E D tA yX11_init (ws_ yX11_init cX11_init 2 (Option.none : Option Jvm.ClassFile.FieldType)) 11 (s_X11_init E a0 a1) [zP a0, zP a1] := by
  refine z_met hl (by decide +kernel) (by rw [zSl_len]; exact (Nat.le_of_ble_eq_true rfl)) fun p e R s m args below meth c k0 x hret hnm htab => ?_
  refine z_lv [(0, zP a0), (1, zP a1)] rfl ?_
  unfold s_X11_init
  refine z_aload_n (pc := 0) x 0 dX11_init_0 rfl rfl ?_
  refine z_call (pc := 1) (z_canIN (pc := 1) (ret := none) (As := []) (st := []) x (fun b => m_X10_init hl (some b)) q906 rfl q907 q146 q908 n_X10_init ⟨by decide, by decide⟩ (Nat.le_of_ble_eq_true rfl) dX11_init_1) (zv_V ?_) (fun q => zx_thr x (fun z hz => (htab z hz).elim) q)
  refine z_aload_n (pc := 4) x 0 dX11_init_4 rfl rfl ?_
  refine z_new (pc := 5) x in_X4 tyX4 tyX4_ok q910 q224 q114 (ci := 32) rfl (by decide) (by decide +kernel) dX11_init_5 fun v5 => ?_
  refine z_dup (pc := 8) x dX11_init_8 rfl ?_
  refine z_aload_n (pc := 9) x 1 dX11_init_9 rfl rfl ?_
  refine z_call (pc := 10) (z_canI (pc := 10) (ret := none) (As := [zP a1]) (st := [zP v5, zP a0]) x (fun b => m_X4_init_2 hl (some b) a1) q911 rfl q623 q114 q624 n_X4_init_2 ⟨by decide, by decide⟩ (Nat.le_of_ble_eq_true rfl) dX11_init_10) (zv_V ?_) (fun q => zx_thr x (fun z hz => (htab z hz).elim) q)
  refine z_setF (pc := 13) (v := zP v5) x in_X11 tyX11 tyX11_ok nmX11 (ci := 17) rfl (k := 0) (by decide) q912 (fun _ h => h) rfl hnm rfl (zfitR rfl _).1 (zfitR rfl _).2 dX11_init_13 ?_
  exact z_vret (pc := 16) x hret dX11_init_16
/-! X25_range -/
def s_X25_range (E : zE) (a0 : Option Nat) (a1 : Int32) : zM := zGetI a0 31 4 (fun v1 => if ((v1 >>> (a1 &&& 31)) &&& (1 : Int32)) = (1 : Int32) then (zRet (some (.int (10 : Int32)))) else (zRet (some (.int (1 : Int32)))))
theorem m_X25_range {l : Launch} {E : zE} {D : va_G} {tA : Nat → ClassId} (hl : l.stackTraces = false) (a0 : Option Nat) (a1 : Int32) : zMet l E D tA yX25_range (ws_ yX25_range cX25_range 2 (Option.some Jvm.ClassFile.FieldType.int)) 9 (s_X25_range E a0 a1) [zP a0, zI a1] := by
  refine z_met hl (by decide +kernel) (by rw [zSl_len]; exact (Nat.le_of_ble_eq_true rfl)) fun p e R s m args below meth c k0 x hret hnm htab => ?_
  refine z_lv [(0, zP a0), (1, zI a1)] rfl ?_
  unfold s_X25_range
  refine z_aload_n (pc := 0) x 0 dX25_range_0 rfl rfl ?_
  refine z_get (pc := 1) (fun _ _ h => zAsI_eq h) x in_X25 (ci := 31) rfl (k := 4) (by decide) q2514 (fun _ h => h) dX25_range_1 fun v1 => ?_
  refine z_iload_n (pc := 4) x 1 dX25_range_4 rfl rfl ?_
  refine z_ishr (pc := 5) x dX25_range_5 ?_
  refine z_iconst (pc := 6) x (v := (1 : Int32)) dX25_range_6 rfl ?_
  refine z_iand (pc := 7) x dX25_range_7 ?_
  refine z_iconst (pc := 8) x (v := (1 : Int32)) dX25_range_8 rfl ?_
  refine z_icmp_ne (pc := 9) (tgt := 17) x dX25_range_9 rfl (fun _ => ?_) (fun _ => ?_)
  · refine z_bipush (pc := 12) x (v := (10 : Int32)) dX25_range_12 rfl ?_
    refine z_goto (pc := 14) (tgt := 18) x dX25_range_14 rfl ?_
    exact z_iret (pc := 18) x hret dX25_range_18
  · refine z_iconst (pc := 17) x (v := (1 : Int32)) dX25_range_17 rfl ?_
    exact z_iret (pc := 18) x hret dX25_range_18
/-! X11_meet -/
def s_X11_meet (E : zE) (a0 : Option Nat) (a1 : Option Nat) (a2 : Option Nat) : zM := zGetI a0 17 1 (fun v2 => zGetR a0 17 0 (fun v6 => zGetR a1 31 0 (fun v10 => zGetI v10 37 0 (fun v13 => zGetR a1 31 0 (fun v17 => zC (zRv v17 [(37, fun b => s_X9_code E (some b) a2)]) zThr (zKI (fun v21 => zC (zRv v6 [(32, fun b => s_X4_add E (some b) v13 v21)]) zThr (zKI (fun v24 => zSetN E .boolean a0 17 1 (v2 ||| v24) (zRet none))))))))))
theorem m_X11_meet {l : Launch} {E : zE} {D : va_G} {tA : Nat → ClassId} (hl : l.stackTraces = false) (a0 : Option Nat) (a1 : Option Nat) (a2 : Option Nat) : zMet l E D tA yX11_meet (ws_ yX11_meet cX11_meet 3 (Option.none : Option Jvm.ClassFile.FieldType)) 12 (s_X11_meet E a0 a1 a2) [zP a0, zP a1, zP a2] := by
  refine z_met hl (by decide +kernel) (by rw [zSl_len]; exact (Nat.le_of_ble_eq_true rfl)) fun p e R s m args below meth c k0 x hret hnm htab => ?_
  refine z_lv [(0, zP a0), (1, zP a1), (2, zP a2)] rfl ?_
  unfold s_X11_meet
  refine z_aload_n (pc := 0) x 0 dX11_meet_0 rfl rfl ?_
  refine z_dup (pc := 1) x dX11_meet_1 rfl ?_
  refine z_get (pc := 2) (fun _ _ h => zAsI_eq h) x in_X11 (ci := 17) rfl (k := 1) (by decide) q914 (fun _ h => h) dX11_meet_2 fun v2 => ?_
  refine z_aload_n (pc := 5) x 0 dX11_meet_5 rfl rfl ?_
  refine z_get (pc := 6) (fun _ _ h => zAsR_eq h) x in_X11 (ci := 17) rfl (k := 0) (by decide) q912 (fun _ h => h) dX11_meet_6 fun v6 => ?_
  refine z_aload_n (pc := 9) x 1 dX11_meet_9 rfl rfl ?_
  refine z_getN (pc := 10) (fun _ _ h => zAsR_eq h) x in_X25 (ci := 31) rfl (k := 0) (by decide) q2498 (fun _ h => h) dX11_meet_10 fun v10 => ?_
  refine z_getN (pc := 13) (fun _ _ h => zAsI_eq h) x in_X9 (ci := 37) rfl (k := 0) (by decide) q2361 (fun _ h => h) dX11_meet_13 fun v13 => ?_
  refine z_aload_n (pc := 16) x 1 dX11_meet_16 rfl rfl ?_
  refine z_getN (pc := 17) (fun _ _ h => zAsR_eq h) x in_X25 (ci := 31) rfl (k := 0) (by decide) q2498 (fun _ h => h) dX11_meet_17 fun v17 => ?_
  refine z_aload_n (pc := 20) x 2 dX11_meet_20 rfl rfl ?_
  refine z_call (pc := 21) (z_canV (pc := 21) (As := [zP a2]) (st := [zI v13, zP v6, zI v2, zP a0]) x (ci := 37) rfl (fun b => m_X9_code hl (some b) a2) q980 q800 (x.2.2.2.2.1 _ q801) q143 q802 n_X9_code ⟨by decide, by decide⟩ (Nat.le_of_ble_eq_true rfl) dX11_meet_21) (zv_I fun v21 => ?_) (fun q => zx_thr x (fun z hz => (htab z hz).elim) q)
  refine z_call (pc := 24) (z_canV (pc := 24) (As := [zI v13, zI v21]) (st := [zI v2, zP a0]) x (ci := 32) rfl (fun b => m_X4_add hl (some b) v13 v21) q981 q834 (x.2.2.2.2.1 _ q835) q114 q836 n_X4_add ⟨by decide, by decide⟩ (Nat.le_of_ble_eq_true rfl) dX11_meet_24) (zv_I fun v24 => ?_) (fun q => zx_thr x (fun z hz => (htab z hz).elim) q)
  refine z_ior (pc := 27) x dX11_meet_27 ?_
  refine z_set_small fun hn hf => ?_
  refine z_set (pc := 28) (v := zI (v2 ||| v24)) x in_X11 tyX11 tyX11_ok nmX11 (ci := 17) rfl (k := 1) (by decide) q914 (fun _ h => h) rfl hn hf dX11_meet_28 ?_
  exact z_vret (pc := 31) x hret dX11_meet_31
/-! X12_heightBy -/
def s_X12_heightBy_13 (E : zE) : Nat → Option Nat → Option Nat → Int32 → Option Nat → zM
  | 0, _, _, _, _ => zFail
  | n + 1, a0, a2, a3, a4 => zC (zRv a4 [(11, fun b => s_J22_hasNext E (some b))]) zThr (zKI (fun v15 => if v15 = 0 then (zRet (some (.int (a3 + (1 : Int32))))) else (zC (zRv a4 [(11, fun b => s_J22_next E (some b))]) zThr (zKR (fun v25 => zCsS 37 v25 (zGetR a0 18 1 (fun v37 => zGetI v25 37 0 (fun v42 => zGaR 7 v37 v42 (fun v45 => zC (zRv v25 [(37, fun b => s_X9_code E (some b) a2)]) zThr (zKI (fun v49 => zGaI 0 v45 v49 (fun v52 => (s_X12_heightBy_13 E n) a0 a2 (if a3 < v52 then v52 else a3) a4))))))))))))
theorem w_X12_heightBy_13 (x : zCx p l R s m args meth c E D tA cX12_heightBy 6 yX12_heightBy.cls 12) (hl : l.stackTraces = false) (hret : meth.sig.returnType = (Option.some Jvm.ClassFile.FieldType.int)) (hnm : meth.name = yX12_heightBy.name) (htab : ∀ z ∈ c.exceptionTable.toList, False) : ∀ (n : Nat) (a0 : Option Nat) (a2 : Option Nat) (a3 : Int32) (a4 : Option Nat), zW p l e R s m args below meth c E D tA 6 k0 (s_X12_heightBy_13 E n a0 a2 a3 a4) [(0, zP a0), (2, zP a2), (3, zI a3), (4, zP a4)] 13 [] := by
  intro n
  induction n with
  | zero => intro a0 a2 a3 a4; exact z_fail
  | succ n h13 =>
    intro a0 a2 a3 a4
    rw [s_X12_heightBy_13]
    refine z_aload (pc := 13) x 3 dX12_heightBy_13 rfl ?_
    refine z_call (pc := 15) (z_canIF (pc := 15) (As := []) (st := []) (x9 := ⟨"java/util/Iterator", "hasNext", "()Z"⟩) x (ci := 11) rfl (fun b => m_J22_hasNext hl (some b)) q957 q413 q412 (by decide) q415 q417 q418 q416 q414 q139 q419 nx_java_util_Iterator_hasNext___Z ⟨by decide, by decide⟩ (Nat.le_of_ble_eq_true rfl) dX12_heightBy_15) (zv_I fun v15 => ?_) (fun q => zx_thr x (fun z hz => (htab z hz).elim) q)
    refine z_if_eq (pc := 20) (tgt := 60) x dX12_heightBy_20 rfl (fun _ => ?_) (fun _ => ?_)
    · refine z_iload_n (pc := 60) x 2 dX12_heightBy_60 rfl rfl ?_
      refine z_iconst (pc := 61) x (v := (1 : Int32)) dX12_heightBy_61 rfl ?_
      refine z_iadd (pc := 62) x dX12_heightBy_62 ?_
      exact z_iret (pc := 63) x hret dX12_heightBy_63
    · refine z_aload (pc := 23) x 3 dX12_heightBy_23 rfl ?_
      refine z_call (pc := 25) (z_canIF (pc := 25) (As := []) (st := []) (x9 := ⟨"java/util/Iterator", "next", "()Ljava/lang/Object;"⟩) x (ci := 11) rfl (fun b => m_J22_next hl (some b)) q959 q423 q422 (by decide) q424 q426 q427 q425 q414 q139 q428 nx_java_util_Iterator_next___Ljava_lang_Object_ ⟨by decide, by decide⟩ (Nat.le_of_ble_eq_true rfl) dX12_heightBy_25) (zv_R fun v25 => ?_) (fun q => zx_thr x (fun z hz => (htab z hz).elim) q)
      refine z_csS (pc := 30) x (ci := 37) rfl q960 dX12_heightBy_30 ?_
      refine z_astore (pc := 33) (lv' := [(5, zP v25), (0, zP a0), (2, zP a2), (3, zI a3), (4, zP a4)]) x dX12_heightBy_33 (Nat.le_of_ble_eq_true rfl) rfl ?_
      refine z_iload_n (pc := 35) x 3 dX12_heightBy_35 rfl rfl ?_
      refine z_aload_n (pc := 36) x 1 dX12_heightBy_36 rfl rfl ?_
      refine z_get (pc := 37) (fun _ _ h => zAsR_eq h) x in_X12 (ci := 18) rfl (k := 1) (by decide) q999 (fun _ h => h) dX12_heightBy_37 fun v37 => ?_
      refine z_aload (pc := 40) x 0 dX12_heightBy_40 rfl ?_
      refine z_getN (pc := 42) (fun _ _ h => zAsI_eq h) x in_X9 (ci := 37) rfl (k := 0) (by decide) q2365 (fun _ h => h) dX12_heightBy_42 fun v42 => ?_
      refine z_aald (pc := 45) x (t := 7) rfl rfl dX12_heightBy_45 fun v45 => ?_
      refine z_aload (pc := 46) x 0 dX12_heightBy_46 rfl ?_
      refine z_aload_n (pc := 48) x 2 dX12_heightBy_48 rfl rfl ?_
      refine z_call (pc := 49) (z_canV (pc := 49) (As := [zP a2]) (st := [zP v45, zI a3]) x (ci := 37) rfl (fun b => m_X9_code hl (some b) a2) q961 q800 (x.2.2.2.2.1 _ q801) q143 q802 n_X9_code ⟨by decide, by decide⟩ (Nat.le_of_ble_eq_true rfl) dX12_heightBy_49) (zv_I fun v49 => ?_) (fun q => zx_thr x (fun z hz => (htab z hz).elim) q)
      refine z_iald (pc := 52) x (t := 0) rfl dX12_heightBy_52 fun v52 => ?_
      refine z_mmax (pc := 53) x q962 q610 q130 q611 (by omega) (zSum (k := 0) rfl (by omega)) dX12_heightBy_53 ?_
      refine z_istore_n (pc := 56) (lv' := [(3, zI (if a3 < v52 then v52 else a3)), (5, zP v25), (0, zP a0), (2, zP a2), (4, zP a4)]) x dX12_heightBy_56 rfl (Nat.le_of_ble_eq_true rfl) rfl ?_
      refine z_goto (pc := 57) (tgt := 13) x dX12_heightBy_57 rfl ?_
      exact z_sub [2, 3, 0, 4] rfl (h13 a0 a2 (if a3 < v52 then v52 else a3) a4)
def s_X12_heightBy (E : zE) (a0 : Option Nat) (a1 : Option Nat) (a2 : Option Nat) : zM := zGetR a1 31 2 (fun v3 => zC (zRv v3 [(10, fun b => s_J2_iterator E (some b))]) zThr (zKR (fun v6 => s_X12_heightBy_13 E zN a0 a2 (0 : Int32) v6)))
theorem m_X12_heightBy {l : Launch} {E : zE} {D : va_G} {tA : Nat → ClassId} (hl : l.stackTraces = false) (a0 : Option Nat) (a1 : Option Nat) (a2 : Option Nat) : zMet l E D tA yX12_heightBy (ws_ yX12_heightBy cX12_heightBy 6 (Option.some Jvm.ClassFile.FieldType.int)) 12 (s_X12_heightBy E a0 a1 a2) [zP a0, zP a1, zP a2] := by
  refine z_met hl (by decide +kernel) (by rw [zSl_len]; exact (Nat.le_of_ble_eq_true rfl)) fun p e R s m args below meth c k0 x hret hnm htab => ?_
  refine z_lv [(0, zP a0), (1, zP a1), (2, zP a2)] rfl ?_
  unfold s_X12_heightBy
  refine z_iconst (pc := 0) x (v := (0 : Int32)) dX12_heightBy_0 rfl ?_
  refine z_istore_n (pc := 1) (lv' := [(3, zI (0 : Int32)), (0, zP a0), (1, zP a1), (2, zP a2)]) x dX12_heightBy_1 rfl (Nat.le_of_ble_eq_true rfl) rfl ?_
  refine z_aload_n (pc := 2) x 2 dX12_heightBy_2 rfl rfl ?_
  refine z_getN (pc := 3) (fun _ _ h => zAsR_eq h) x in_X25 (ci := 31) rfl (k := 2) (by decide) q2507 (fun _ h => h) dX12_heightBy_3 fun v3 => ?_
  refine z_call (pc := 6) (z_canIF (pc := 6) (As := []) (st := []) (x9 := ⟨"java/util/List", "iterator", "()Ljava/util/Iterator;"⟩) x (ci := 10) rfl (fun b => m_J2_iterator hl (some b)) q955 q383 q382 (by decide) q385 q387 q388 q386 q384 q112 q389 nx_java_util_List_iterator___Ljava_util_Iterator_ ⟨by decide, by decide⟩ (Nat.le_of_ble_eq_true rfl) dX12_heightBy_6) (zv_R fun v6 => ?_) (fun q => zx_thr x (fun z hz => (htab z hz).elim) q)
  refine z_astore (pc := 11) (lv' := [(4, zP v6), (3, zI (0 : Int32)), (0, zP a0), (1, zP a1), (2, zP a2)]) x dX12_heightBy_11 (Nat.le_of_ble_eq_true rfl) rfl ?_
  exact z_sub [2, 4, 1, 0] rfl (w_X12_heightBy_13 x hl hret hnm htab zN a0 a2 (0 : Int32) v6)
/-! X13_meet -/
def s_X13_meet (E : zE) (a0 : Option Nat) (a1 : Option Nat) (a2 : Option Nat) : zM := zGetR a1 31 0 (fun v1 => zC (zRv v1 [(37, fun b => s_X9_code E (some b) a2)]) zThr (zKI (fun v5 => zGetR a0 19 0 (fun v10 => zGetR v10 18 1 (fun v13 => zGetR a1 31 0 (fun v17 => zGetI v17 37 0 (fun v20 => zGaR 7 v13 v20 (fun v23 => zGaI 0 v23 v5 (fun v32 => zGetR a0 19 0 (fun v34 => zC (zRv v34 [(18, fun b => s_X12_heightBy E (some b) a1 a2)]) zThr (zKI (fun v39 => zSaI E 0 v23 v5 (if v39 < v32 then v39 else v32) (zRet none)))))))))))))
theorem m_X13_meet {l : Launch} {E : zE} {D : va_G} {tA : Nat → ClassId} (hl : l.stackTraces = false) (a0 : Option Nat) (a1 : Option Nat) (a2 : Option Nat) : zMet l E D tA yX13_meet (ws_ yX13_meet cX13_meet 5 (Option.none : Option Jvm.ClassFile.FieldType)) 13 (s_X13_meet E a0 a1 a2) [zP a0, zP a1, zP a2] := by
  refine z_met hl (by decide +kernel) (by rw [zSl_len]; exact (Nat.le_of_ble_eq_true rfl)) fun p e R s m args below meth c k0 x hret hnm htab => ?_
  refine z_lv [(0, zP a0), (1, zP a1), (2, zP a2)] rfl ?_
  unfold s_X13_meet
  refine z_aload_n (pc := 0) x 1 dX13_meet_0 rfl rfl ?_
  refine z_getN (pc := 1) (fun _ _ h => zAsR_eq h) x in_X25 (ci := 31) rfl (k := 0) (by decide) q2495 (fun _ h => h) dX13_meet_1 fun v1 => ?_
  refine z_aload_n (pc := 4) x 2 dX13_meet_4 rfl rfl ?_
  refine z_call (pc := 5) (z_canV (pc := 5) (As := [zP a2]) (st := []) x (ci := 37) rfl (fun b => m_X9_code hl (some b) a2) q948 q800 (x.2.2.2.2.1 _ q801) q143 q802 n_X9_code ⟨by decide, by decide⟩ (Nat.le_of_ble_eq_true rfl) dX13_meet_5) (zv_I fun v5 => ?_) (fun q => zx_thr x (fun z hz => (htab z hz).elim) q)
  refine z_istore_n (pc := 8) (lv' := [(3, zI v5), (0, zP a0), (1, zP a1), (2, zP a2)]) x dX13_meet_8 rfl (Nat.le_of_ble_eq_true rfl) rfl ?_
  refine z_aload_n (pc := 9) x 1 dX13_meet_9 rfl rfl ?_
  refine z_get (pc := 10) (fun _ _ h => zAsR_eq h) x in_X13 (ci := 19) rfl (k := 0) (by decide) q1022 (fun _ h => h) dX13_meet_10 fun v10 => ?_
  refine z_getN (pc := 13) (fun _ _ h => zAsR_eq h) x in_X12 (ci := 18) rfl (k := 1) (by decide) q1000 (fun _ h => h) dX13_meet_13 fun v13 => ?_
  refine z_aload_n (pc := 16) x 2 dX13_meet_16 rfl rfl ?_
  refine z_getN (pc := 17) (fun _ _ h => zAsR_eq h) x in_X25 (ci := 31) rfl (k := 0) (by decide) q2495 (fun _ h => h) dX13_meet_17 fun v17 => ?_
  refine z_getN (pc := 20) (fun _ _ h => zAsI_eq h) x in_X9 (ci := 37) rfl (k := 0) (by decide) q2363 (fun _ h => h) dX13_meet_20 fun v20 => ?_
  refine z_aald (pc := 23) x (t := 7) rfl rfl dX13_meet_23 fun v23 => ?_
  refine z_astore (pc := 24) (lv' := [(4, zP v23), (3, zI v5), (0, zP a0), (1, zP a1), (2, zP a2)]) x dX13_meet_24 (Nat.le_of_ble_eq_true rfl) rfl ?_
  refine z_aload (pc := 26) x 0 dX13_meet_26 rfl ?_
  refine z_iload_n (pc := 28) x 1 dX13_meet_28 rfl rfl ?_
  refine z_aload (pc := 29) x 0 dX13_meet_29 rfl ?_
  refine z_iload_n (pc := 31) x 1 dX13_meet_31 rfl rfl ?_
  refine z_iald (pc := 32) x (t := 0) rfl dX13_meet_32 fun v32 => ?_
  refine z_aload_n (pc := 33) x 2 dX13_meet_33 rfl rfl ?_
  refine z_get (pc := 34) (fun _ _ h => zAsR_eq h) x in_X13 (ci := 19) rfl (k := 0) (by decide) q1022 (fun _ h => h) dX13_meet_34 fun v34 => ?_
  refine z_aload_n (pc := 37) x 3 dX13_meet_37 rfl rfl ?_
  refine z_aload_n (pc := 38) x 4 dX13_meet_38 rfl rfl ?_
  refine z_call (pc := 39) (z_canVN (pc := 39) (As := [zP a1, zP a2]) (st := [zI v32, zI v5, zP v23]) x (ci := 18) rfl (fun b => m_X12_heightBy hl (some b) a1 a2) q949 q951 (z_selP x (ci := 18) rfl (by decide) (zNi_inst x q952) q950 q951) q148 q953 n_X12_heightBy ⟨by decide, by decide⟩ (Nat.le_of_ble_eq_true rfl) dX13_meet_39) (zv_I fun v39 => ?_) (fun q => zx_thr x (fun z hz => (htab z hz).elim) q)
  refine z_mmin (pc := 42) x q963 q613 q130 q614 (by omega) (zSum (k := 2) rfl (by omega)) dX13_meet_42 ?_
  refine z_iast (pc := 45) x (t := 0) rfl dX13_meet_45 ?_
  exact z_vret (pc := 46) x hret dX13_meet_46
/-! X14_meet -/
def s_X14_meet_66 (E : zE) (b0 : Option Nat) (b1 : Int32) (b2 : Int32) : zM := zSaI E 0 b0 b1 b2 (zRet none)
theorem w_X14_meet_66 (x : zCx p l R s m args meth c E D tA cX14_meet 5 yX14_meet.cls 13) (hl : l.stackTraces = false) (hret : meth.sig.returnType = (Option.none : Option Jvm.ClassFile.FieldType)) (hnm : meth.name = yX14_meet.name) (htab : ∀ z ∈ c.exceptionTable.toList, False) (b0 : Option Nat) (b1 : Int32) (b2 : Int32) : zW p l e R s m args below meth c E D tA 5 k0 (s_X14_meet_66 E b0 b1 b2) [] 66 [zI b2, zI b1, zP b0] := by
  unfold s_X14_meet_66
  refine z_iast (pc := 66) x (t := 0) rfl dX14_meet_66 ?_
  exact z_vret (pc := 67) x hret dX14_meet_67
def s_X14_meet_62 (E : zE) (a3 : Int32) (a4 : Option Nat) (b0 : Option Nat) (b1 : Int32) : zM := zGaI 0 a4 a3 (fun v65 => s_X14_meet_66 E b0 b1 v65)
theorem w_X14_meet_62 (x : zCx p l R s m args meth c E D tA cX14_meet 5 yX14_meet.cls 13) (hl : l.stackTraces = false) (hret : meth.sig.returnType = (Option.none : Option Jvm.ClassFile.FieldType)) (hnm : meth.name = yX14_meet.name) (htab : ∀ z ∈ c.exceptionTable.toList, False) (a3 : Int32) (a4 : Option Nat) (b0 : Option Nat) (b1 : Int32) : zW p l e R s m args below meth c E D tA 5 k0 (s_X14_meet_62 E a3 a4 b0 b1) [(3, zI a3), (4, zP a4)] 62 [zI b1, zP b0] := by
  unfold s_X14_meet_62
  refine z_aload (pc := 62) x 1 dX14_meet_62 rfl ?_
  refine z_iload_n (pc := 64) x 0 dX14_meet_64 rfl rfl ?_
  refine z_iald (pc := 65) x (t := 0) rfl dX14_meet_65 fun v65 => ?_
  exact z_sub [] rfl (w_X14_meet_66 x hl hret hnm htab b0 b1 v65)
def s_X14_meet (E : zE) (a0 : Option Nat) (a1 : Option Nat) (a2 : Option Nat) : zM := zGetR a1 31 0 (fun v1 => zC (zRv v1 [(37, fun b => s_X9_code E (some b) a2)]) zThr (zKI (fun v5 => zGetR a0 20 1 (fun v10 => zGetR v10 18 1 (fun v13 => zGetR a1 31 0 (fun v17 => zGetI v17 37 0 (fun v20 => zGaR 7 v13 v20 (fun v23 => zGaI 0 v23 v5 (fun v32 => if v32 = (1000 : Int32) then (zGetR a0 20 1 (fun v40 => zC (zRv v40 [(18, fun b => s_X12_heightBy E (some b) a1 a2)]) zThr (zKI (fun v45 => zGetI a0 20 0 (fun v49 => if v49 < v45 then (s_X14_meet_62 E v5 v23 v23 v5) else (zGetI a0 20 0 (fun v56 => s_X14_meet_66 E v23 v5 v56))))))) else (s_X14_meet_62 E v5 v23 v23 v5))))))))))
theorem m_X14_meet {l : Launch} {E : zE} {D : va_G} {tA : Nat → ClassId} (hl : l.stackTraces = false) (a0 : Option Nat) (a1 : Option Nat) (a2 : Option Nat) : zMet l E D tA yX14_meet (ws_ yX14_meet cX14_meet 5 (Option.none : Option Jvm.ClassFile.FieldType)) 13 (s_X14_meet E a0 a1 a2) [zP a0, zP a1, zP a2] := by
  refine z_met hl (by decide +kernel) (by rw [zSl_len]; exact (Nat.le_of_ble_eq_true rfl)) fun p e R s m args below meth c k0 x hret hnm htab => ?_
  refine z_lv [(0, zP a0), (1, zP a1), (2, zP a2)] rfl ?_
  unfold s_X14_meet
  refine z_aload_n (pc := 0) x 1 dX14_meet_0 rfl rfl ?_
  refine z_getN (pc := 1) (fun _ _ h => zAsR_eq h) x in_X25 (ci := 31) rfl (k := 0) (by decide) q2496 (fun _ h => h) dX14_meet_1 fun v1 => ?_
  refine z_aload_n (pc := 4) x 2 dX14_meet_4 rfl rfl ?_
  refine z_call (pc := 5) (z_canV (pc := 5) (As := [zP a2]) (st := []) x (ci := 37) rfl (fun b => m_X9_code hl (some b) a2) q967 q800 (x.2.2.2.2.1 _ q801) q143 q802 n_X9_code ⟨by decide, by decide⟩ (Nat.le_of_ble_eq_true rfl) dX14_meet_5) (zv_I fun v5 => ?_) (fun q => zx_thr x (fun z hz => (htab z hz).elim) q)
  refine z_istore_n (pc := 8) (lv' := [(3, zI v5), (0, zP a0), (1, zP a1), (2, zP a2)]) x dX14_meet_8 rfl (Nat.le_of_ble_eq_true rfl) rfl ?_
  refine z_aload_n (pc := 9) x 1 dX14_meet_9 rfl rfl ?_
  refine z_get (pc := 10) (fun _ _ h => zAsR_eq h) x in_X14 (ci := 20) rfl (k := 1) (by decide) q1048 (fun _ h => h) dX14_meet_10 fun v10 => ?_
  refine z_getN (pc := 13) (fun _ _ h => zAsR_eq h) x in_X12 (ci := 18) rfl (k := 1) (by decide) q1001 (fun _ h => h) dX14_meet_13 fun v13 => ?_
  refine z_aload_n (pc := 16) x 2 dX14_meet_16 rfl rfl ?_
  refine z_getN (pc := 17) (fun _ _ h => zAsR_eq h) x in_X25 (ci := 31) rfl (k := 0) (by decide) q2496 (fun _ h => h) dX14_meet_17 fun v17 => ?_
  refine z_getN (pc := 20) (fun _ _ h => zAsI_eq h) x in_X9 (ci := 37) rfl (k := 0) (by decide) q2364 (fun _ h => h) dX14_meet_20 fun v20 => ?_
  refine z_aald (pc := 23) x (t := 7) rfl rfl dX14_meet_23 fun v23 => ?_
  refine z_astore (pc := 24) (lv' := [(4, zP v23), (3, zI v5), (0, zP a0), (1, zP a1), (2, zP a2)]) x dX14_meet_24 (Nat.le_of_ble_eq_true rfl) rfl ?_
  refine z_aload (pc := 26) x 0 dX14_meet_26 rfl ?_
  refine z_iload_n (pc := 28) x 1 dX14_meet_28 rfl rfl ?_
  refine z_aload (pc := 29) x 0 dX14_meet_29 rfl ?_
  refine z_iload_n (pc := 31) x 1 dX14_meet_31 rfl rfl ?_
  refine z_iald (pc := 32) x (t := 0) rfl dX14_meet_32 fun v32 => ?_
  refine z_sipush (pc := 33) x (v := (1000 : Int32)) dX14_meet_33 rfl ?_
  refine z_icmp_ne (pc := 36) (tgt := 62) x dX14_meet_36 rfl (fun _ => ?_) (fun _ => ?_)
  · refine z_aload_n (pc := 39) x 2 dX14_meet_39 rfl rfl ?_
    refine z_get (pc := 40) (fun _ _ h => zAsR_eq h) x in_X14 (ci := 20) rfl (k := 1) (by decide) q1048 (fun _ h => h) dX14_meet_40 fun v40 => ?_
    refine z_aload_n (pc := 43) x 3 dX14_meet_43 rfl rfl ?_
    refine z_aload_n (pc := 44) x 4 dX14_meet_44 rfl rfl ?_
    refine z_call (pc := 45) (z_canVN (pc := 45) (As := [zP a1, zP a2]) (st := [zI v5, zP v23]) x (ci := 18) rfl (fun b => m_X12_heightBy hl (some b) a1 a2) q968 q951 (z_selP x (ci := 18) rfl (by decide) (zNi_inst x q952) q950 q951) q148 q953 n_X12_heightBy ⟨by decide, by decide⟩ (Nat.le_of_ble_eq_true rfl) dX14_meet_45) (zv_I fun v45 => ?_) (fun q => zx_thr x (fun z hz => (htab z hz).elim) q)
    refine z_aload_n (pc := 48) x 2 dX14_meet_48 rfl rfl ?_
    refine z_get (pc := 49) (fun _ _ h => zAsI_eq h) x in_X14 (ci := 20) rfl (k := 0) (by decide) q1047 (fun _ h => h) dX14_meet_49 fun v49 => ?_
    refine z_icmp_gt (pc := 52) (tgt := 62) x dX14_meet_52 rfl (fun _ => ?_) (fun _ => ?_)
    · exact z_sub [1, 0] rfl (w_X14_meet_62 x hl hret hnm htab v5 v23 v23 v5)
    · refine z_aload_n (pc := 55) x 2 dX14_meet_55 rfl rfl ?_
      refine z_get (pc := 56) (fun _ _ h => zAsI_eq h) x in_X14 (ci := 20) rfl (k := 0) (by decide) q1047 (fun _ h => h) dX14_meet_56 fun v56 => ?_
      refine z_goto (pc := 59) (tgt := 66) x dX14_meet_59 rfl ?_
      exact z_sub [] rfl (w_X14_meet_66 x hl hret hnm htab v23 v5 v56)
  · exact z_sub [1, 0] rfl (w_X14_meet_62 x hl hret hnm htab v5 v23 v23 v5)
/-! X15_meet -/
def s_X15_meet_45 (E : zE) : Nat → Option Nat → Option Nat → Int32 → zM
  | 0, _, _, _ => zFail
  | n + 1, a0, a2, a3 => if (3 : Int32) ≤ a3 then (zRet none) else (zGetR a0 21 2 (fun v51 => zGaI 0 a2 a3 (fun v57 => zSaI E 0 v51 a3 v57 ((s_X15_meet_45 E n) a0 a2 (a3 + (1 : Int32))))))
theorem w_X15_meet_45 (x : zCx p l R s m args meth c E D tA cX15_meet 4 yX15_meet.cls 13) (hl : l.stackTraces = false) (hret : meth.sig.returnType = (Option.none : Option Jvm.ClassFile.FieldType)) (hnm : meth.name = yX15_meet.name) (htab : ∀ z ∈ c.exceptionTable.toList, False) : ∀ (n : Nat) (a0 : Option Nat) (a2 : Option Nat) (a3 : Int32), zW p l e R s m args below meth c E D tA 4 k0 (s_X15_meet_45 E n a0 a2 a3) [(0, zP a0), (2, zP a2), (3, zI a3)] 45 [] := by
  intro n
  induction n with
  | zero => intro a0 a2 a3; exact z_fail
  | succ n h45 =>
    intro a0 a2 a3
    rw [s_X15_meet_45]
    refine z_iload_n (pc := 45) x 2 dX15_meet_45 rfl rfl ?_
    refine z_iconst (pc := 46) x (v := (3 : Int32)) dX15_meet_46 rfl ?_
    refine z_icmp_ge (pc := 47) (tgt := 65) x dX15_meet_47 rfl (fun _ => ?_) (fun _ => ?_)
    · exact z_vret (pc := 65) x hret dX15_meet_65
    · refine z_aload_n (pc := 50) x 0 dX15_meet_50 rfl rfl ?_
      refine z_get (pc := 51) (fun _ _ h => zAsR_eq h) x in_X15 (ci := 21) rfl (k := 2) (by decide) q1859 (fun _ h => h) dX15_meet_51 fun v51 => ?_
      refine z_iload_n (pc := 54) x 2 dX15_meet_54 rfl rfl ?_
      refine z_aload_n (pc := 55) x 1 dX15_meet_55 rfl rfl ?_
      refine z_iload_n (pc := 56) x 2 dX15_meet_56 rfl rfl ?_
      refine z_iald (pc := 57) x (t := 0) rfl dX15_meet_57 fun v57 => ?_
      refine z_iast (pc := 58) x (t := 0) rfl dX15_meet_58 ?_
      refine z_iinc (pc := 59) (lv' := [(3, zI (a3 + (1 : Int32))), (0, zP a0), (2, zP a2)]) x (v2 := (a3 + (1 : Int32))) 2 dX15_meet_59 rfl rfl (Nat.le_of_ble_eq_true rfl) rfl ?_
      refine z_goto (pc := 62) (tgt := 45) x dX15_meet_62 rfl ?_
      exact z_sub [1, 2, 0] rfl (h45 a0 a2 (a3 + (1 : Int32)))
def s_X15_meet (E : zE) (a0 : Option Nat) (a1 : Option Nat) (a2 : Option Nat) : zM := zGetI a0 21 3 (fun v1 => if v1 = 0 then (zGetR a1 31 0 (fun v8 => zC (zRv v8 [(37, fun b => s_X9_code E (some b) a2)]) zThr (zKI (fun v12 => zGetI a0 21 1 (fun v16 => if v12 = v16 then (zGetR a0 21 4 (fun v23 => zC (zRv v23 [(18, fun b => s_X12_heightBy E (some b) a1 a2)]) zThr (zKI (fun v28 => zGetI a0 21 0 (fun v32 => if v28 = v32 then (zSetN E .boolean a0 21 3 (1 : Int32) (s_X15_meet_45 E zN a0 a2 (0 : Int32))) else (zRet none)))))) else (zRet none)))))) else (zRet none))
theorem m_X15_meet {l : Launch} {E : zE} {D : va_G} {tA : Nat → ClassId} (hl : l.stackTraces = false) (a0 : Option Nat) (a1 : Option Nat) (a2 : Option Nat) : zMet l E D tA yX15_meet (ws_ yX15_meet cX15_meet 4 (Option.none : Option Jvm.ClassFile.FieldType)) 13 (s_X15_meet E a0 a1 a2) [zP a0, zP a1, zP a2] := by
  refine z_met hl (by decide +kernel) (by rw [zSl_len]; exact (Nat.le_of_ble_eq_true rfl)) fun p e R s m args below meth c k0 x hret hnm htab => ?_
  refine z_lv [(0, zP a0), (1, zP a1), (2, zP a2)] rfl ?_
  unfold s_X15_meet
  refine z_aload_n (pc := 0) x 0 dX15_meet_0 rfl rfl ?_
  refine z_get (pc := 1) (fun _ _ h => zAsI_eq h) x in_X15 (ci := 21) rfl (k := 3) (by decide) q1861 (fun _ h => h) dX15_meet_1 fun v1 => ?_
  refine z_if_ne (pc := 4) (tgt := 65) x dX15_meet_4 rfl (fun _ => ?_) (fun _ => ?_)
  · refine z_aload_n (pc := 7) x 1 dX15_meet_7 rfl rfl ?_
    refine z_getN (pc := 8) (fun _ _ h => zAsR_eq h) x in_X25 (ci := 31) rfl (k := 0) (by decide) q2497 (fun _ h => h) dX15_meet_8 fun v8 => ?_
    refine z_aload_n (pc := 11) x 2 dX15_meet_11 rfl rfl ?_
    refine z_call (pc := 12) (z_canV (pc := 12) (As := [zP a2]) (st := []) x (ci := 37) rfl (fun b => m_X9_code hl (some b) a2) q972 q800 (x.2.2.2.2.1 _ q801) q143 q802 n_X9_code ⟨by decide, by decide⟩ (Nat.le_of_ble_eq_true rfl) dX15_meet_12) (zv_I fun v12 => ?_) (fun q => zx_thr x (fun z hz => (htab z hz).elim) q)
    refine z_aload_n (pc := 15) x 0 dX15_meet_15 rfl rfl ?_
    refine z_get (pc := 16) (fun _ _ h => zAsI_eq h) x in_X15 (ci := 21) rfl (k := 1) (by decide) q1858 (fun _ h => h) dX15_meet_16 fun v16 => ?_
    refine z_icmp_ne (pc := 19) (tgt := 65) x dX15_meet_19 rfl (fun _ => ?_) (fun _ => ?_)
    · refine z_aload_n (pc := 22) x 0 dX15_meet_22 rfl rfl ?_
      refine z_get (pc := 23) (fun _ _ h => zAsR_eq h) x in_X15 (ci := 21) rfl (k := 4) (by decide) q1863 (fun _ h => h) dX15_meet_23 fun v23 => ?_
      refine z_aload_n (pc := 26) x 1 dX15_meet_26 rfl rfl ?_
      refine z_aload_n (pc := 27) x 2 dX15_meet_27 rfl rfl ?_
      refine z_call (pc := 28) (z_canVN (pc := 28) (As := [zP a1, zP a2]) (st := []) x (ci := 18) rfl (fun b => m_X12_heightBy hl (some b) a1 a2) q973 q951 (z_selP x (ci := 18) rfl (by decide) (zNi_inst x q952) q950 q951) q148 q953 n_X12_heightBy ⟨by decide, by decide⟩ (Nat.le_of_ble_eq_true rfl) dX15_meet_28) (zv_I fun v28 => ?_) (fun q => zx_thr x (fun z hz => (htab z hz).elim) q)
      refine z_aload_n (pc := 31) x 0 dX15_meet_31 rfl rfl ?_
      refine z_get (pc := 32) (fun _ _ h => zAsI_eq h) x in_X15 (ci := 21) rfl (k := 0) (by decide) q1857 (fun _ h => h) dX15_meet_32 fun v32 => ?_
      refine z_icmp_ne (pc := 35) (tgt := 65) x dX15_meet_35 rfl (fun _ => ?_) (fun _ => ?_)
      · refine z_aload_n (pc := 38) x 0 dX15_meet_38 rfl rfl ?_
        refine z_iconst (pc := 39) x (v := (1 : Int32)) dX15_meet_39 rfl ?_
        refine z_set_small fun hn hf => ?_
        refine z_set (pc := 40) (v := zI (1 : Int32)) x in_X15 tyX15 tyX15_ok nmX15 (ci := 21) rfl (k := 3) (by decide) q1861 (fun _ h => h) rfl hn hf dX15_meet_40 ?_
        refine z_iconst (pc := 43) x (v := (0 : Int32)) dX15_meet_43 rfl ?_
        refine z_istore_n (pc := 44) (lv' := [(3, zI (0 : Int32)), (0, zP a0), (1, zP a1), (2, zP a2)]) x dX15_meet_44 rfl (Nat.le_of_ble_eq_true rfl) rfl ?_
        exact z_sub [1, 3, 0] rfl (w_X15_meet_45 x hl hret hnm htab zN a0 a2 (0 : Int32))
      · exact z_vret (pc := 65) x hret dX15_meet_65
    · exact z_vret (pc := 65) x hret dX15_meet_65
  · exact z_vret (pc := 65) x hret dX15_meet_65
/-! X19_meet -/
def s_X19_meet (E : zE) (a0 : Option Nat) (a1 : Option Nat) (a2 : Option Nat) : zM := zGetI a0 25 0 (fun v2 => zSet E a0 25 0 (zVal (zI (v2 + (1 : Int32)))) (zRet none))
theorem m_X19_meet {l : Launch} {E : zE} {D : va_G} {tA : Nat → ClassId} (hl : l.stackTraces = false) (a0 : Option Nat) (a1 : Option Nat) (a2 : Option Nat) : zMet l E D tA yX19_meet (ws_ yX19_meet cX19_meet 3 (Option.none : Option Jvm.ClassFile.FieldType)) 9 (s_X19_meet E a0 a1 a2) [zP a0, zP a1, zP a2] := by
  refine z_met hl (by decide +kernel) (by rw [zSl_len]; exact (Nat.le_of_ble_eq_true rfl)) fun p e R s m args below meth c k0 x hret hnm htab => ?_
  refine z_lv [(0, zP a0), (1, zP a1), (2, zP a2)] rfl ?_
  unfold s_X19_meet
  refine z_aload_n (pc := 0) x 0 dX19_meet_0 rfl rfl ?_
  refine z_dup (pc := 1) x dX19_meet_1 rfl ?_
  refine z_get (pc := 2) (fun _ _ h => zAsI_eq h) x in_X19 (ci := 25) rfl (k := 0) (by decide) q2048 (fun _ h => h) dX19_meet_2 fun v2 => ?_
  refine z_iconst (pc := 5) x (v := (1 : Int32)) dX19_meet_5 rfl ?_
  refine z_iadd (pc := 6) x dX19_meet_6 ?_
  refine z_set (pc := 7) (v := zI (v2 + (1 : Int32))) x in_X19 tyX19 tyX19_ok nmX19 (ci := 25) rfl (k := 0) (by decide) q2048 (fun _ h => h) rfl rfl rfl dX19_meet_7 ?_
  exact z_vret (pc := 10) x hret dX19_meet_10
/-! X10_take -/
def s_X10_take_64 (E : zE) (k8 : Option Nat → Option Nat → Option Nat → Option Nat → zM) (k23 : Option Nat → Option Nat → Option Nat → Option Nat → zM) (k38 : Option Nat → Option Nat → Option Nat → Option Nat → zM) (a0 : Option Nat) (a1 : Option Nat) (a2 : Option Nat) (a3 : Option Nat) : zM := zGaI 0 a3 (2 : Int32) (fun v67 => zSaI E 0 a3 (2 : Int32) (v67 + (1 : Int32)) (k38 a0 a1 a2 a3))
theorem w_X10_take_64 (x : zCx p l R s m args meth c E D tA cX10_take 4 yX10_take.cls 14) (hl : l.stackTraces = false) (hret : meth.sig.returnType = (Option.none : Option Jvm.ClassFile.FieldType)) (hnm : meth.name = yX10_take.name) (htab : ∀ z ∈ c.exceptionTable.toList, False) {k8 : Option Nat → Option Nat → Option Nat → Option Nat → zM} (h8 : ∀ (a0 : Option Nat) (a1 : Option Nat) (a2 : Option Nat) (a3 : Option Nat) , zW p l e R s m args below meth c E D tA 4 k0 (k8 a0 a1 a2 a3) [(0, zP a0), (1, zP a1), (2, zP a2), (3, zP a3)] 8 []) {k23 : Option Nat → Option Nat → Option Nat → Option Nat → zM} (h23 : ∀ (a0 : Option Nat) (a1 : Option Nat) (a2 : Option Nat) (a3 : Option Nat) , zW p l e R s m args below meth c E D tA 4 k0 (k23 a0 a1 a2 a3) [(0, zP a0), (1, zP a1), (2, zP a2), (3, zP a3)] 23 []) {k38 : Option Nat → Option Nat → Option Nat → Option Nat → zM} (h38 : ∀ (a0 : Option Nat) (a1 : Option Nat) (a2 : Option Nat) (a3 : Option Nat) , zW p l e R s m args below meth c E D tA 4 k0 (k38 a0 a1 a2 a3) [(0, zP a0), (1, zP a1), (2, zP a2), (3, zP a3)] 38 []) (a0 : Option Nat) (a1 : Option Nat) (a2 : Option Nat) (a3 : Option Nat) : zW p l e R s m args below meth c E D tA 4 k0 (s_X10_take_64 E k8 k23 k38 a0 a1 a2 a3) [(0, zP a0), (1, zP a1), (2, zP a2), (3, zP a3)] 64 [] := by
  unfold s_X10_take_64
  refine z_aload_n (pc := 64) x 3 dX10_take_64 rfl rfl ?_
  refine z_iconst (pc := 65) x (v := (2 : Int32)) dX10_take_65 rfl ?_
  refine z_dup2 (pc := 66) x dX10_take_66 rfl rfl ?_
  refine z_iald (pc := 67) x (t := 0) rfl dX10_take_67 fun v67 => ?_
  refine z_iconst (pc := 68) x (v := (1 : Int32)) dX10_take_68 rfl ?_
  refine z_iadd (pc := 69) x dX10_take_69 ?_
  refine z_iast (pc := 70) x (t := 0) rfl dX10_take_70 ?_
  refine z_goto (pc := 71) (tgt := 38) x dX10_take_71 rfl ?_
  exact z_sub [0, 1, 2, 3] rfl (h38 a0 a1 a2 a3)
def s_X10_take_38 (E : zE) (k8 : Option Nat → Option Nat → Option Nat → Option Nat → zM) (k23 : Option Nat → Option Nat → Option Nat → Option Nat → zM) : Nat → Option Nat → Option Nat → Option Nat → Option Nat → zM
  | 0, _, _, _, _ => zFail
  | n + 1, a0, a1, a2, a3 => zGaI 0 a3 (2 : Int32) (fun v40 => zC (zRv a1 [(31, fun b => s_X25_range E (some b) (2 : Int32))]) zThr (zKI (fun v43 => if v43 ≤ v40 then (zGaI 0 a3 (1 : Int32) (fun v77 => zSaI E 0 a3 (1 : Int32) (v77 + (1 : Int32)) (k23 a0 a1 a2 a3))) else (zC (zRv a1 [(31, fun b => s_X25_holds E (some b) a2 a3)]) zThr (zKI (fun v52 => if v52 = 0 then (s_X10_take_64 E k8 k23 (s_X10_take_38 E k8 k23 n) a0 a1 a2 a3) else (zC (zRv a0 [(17, fun b => s_X11_meet E (some b) a1 a3), (19, fun b => s_X13_meet E (some b) a1 a3), (20, fun b => s_X14_meet E (some b) a1 a3), (21, fun b => s_X15_meet E (some b) a1 a3), (25, fun b => s_X19_meet E (some b) a1 a3)]) zThr (zKV (s_X10_take_64 E k8 k23 (s_X10_take_38 E k8 k23 n) a0 a1 a2 a3)))))))))
theorem w_X10_take_38 (x : zCx p l R s m args meth c E D tA cX10_take 4 yX10_take.cls 14) (hl : l.stackTraces = false) (hret : meth.sig.returnType = (Option.none : Option Jvm.ClassFile.FieldType)) (hnm : meth.name = yX10_take.name) (htab : ∀ z ∈ c.exceptionTable.toList, False) {k8 : Option Nat → Option Nat → Option Nat → Option Nat → zM} (h8 : ∀ (a0 : Option Nat) (a1 : Option Nat) (a2 : Option Nat) (a3 : Option Nat) , zW p l e R s m args below meth c E D tA 4 k0 (k8 a0 a1 a2 a3) [(0, zP a0), (1, zP a1), (2, zP a2), (3, zP a3)] 8 []) {k23 : Option Nat → Option Nat → Option Nat → Option Nat → zM} (h23 : ∀ (a0 : Option Nat) (a1 : Option Nat) (a2 : Option Nat) (a3 : Option Nat) , zW p l e R s m args below meth c E D tA 4 k0 (k23 a0 a1 a2 a3) [(0, zP a0), (1, zP a1), (2, zP a2), (3, zP a3)] 23 []) : ∀ (n : Nat) (a0 : Option Nat) (a1 : Option Nat) (a2 : Option Nat) (a3 : Option Nat), zW p l e R s m args below meth c E D tA 4 k0 (s_X10_take_38 E k8 k23 n a0 a1 a2 a3) [(0, zP a0), (1, zP a1), (2, zP a2), (3, zP a3)] 38 [] := by
  intro n
  induction n with
  | zero => intro a0 a1 a2 a3; exact z_fail
  | succ n h38 =>
    intro a0 a1 a2 a3
    rw [s_X10_take_38]
    refine z_aload_n (pc := 38) x 3 dX10_take_38 rfl rfl ?_
    refine z_iconst (pc := 39) x (v := (2 : Int32)) dX10_take_39 rfl ?_
    refine z_iald (pc := 40) x (t := 0) rfl dX10_take_40 fun v40 => ?_
    refine z_aload_n (pc := 41) x 1 dX10_take_41 rfl rfl ?_
    refine z_iconst (pc := 42) x (v := (2 : Int32)) dX10_take_42 rfl ?_
    refine z_call (pc := 43) (z_canV (pc := 43) (As := [zI (2 : Int32)]) (st := [zI v40]) x (ci := 31) rfl (fun b => m_X25_range hl (some b) (2 : Int32)) q937 q938 (x.2.2.2.2.1 _ q939) q164 q940 n_X25_range ⟨by decide, by decide⟩ (Nat.le_of_ble_eq_true rfl) dX10_take_43) (zv_I fun v43 => ?_) (fun q => zx_thr x (fun z hz => (htab z hz).elim) q)
    refine z_icmp_ge (pc := 46) (tgt := 74) x dX10_take_46 rfl (fun _ => ?_) (fun _ => ?_)
    · refine z_aload_n (pc := 74) x 3 dX10_take_74 rfl rfl ?_
      refine z_iconst (pc := 75) x (v := (1 : Int32)) dX10_take_75 rfl ?_
      refine z_dup2 (pc := 76) x dX10_take_76 rfl rfl ?_
      refine z_iald (pc := 77) x (t := 0) rfl dX10_take_77 fun v77 => ?_
      refine z_iconst (pc := 78) x (v := (1 : Int32)) dX10_take_78 rfl ?_
      refine z_iadd (pc := 79) x dX10_take_79 ?_
      refine z_iast (pc := 80) x (t := 0) rfl dX10_take_80 ?_
      refine z_goto (pc := 81) (tgt := 23) x dX10_take_81 rfl ?_
      exact z_sub [0, 1, 2, 3] rfl (h23 a0 a1 a2 a3)
    · refine z_aload_n (pc := 49) x 1 dX10_take_49 rfl rfl ?_
      refine z_aload_n (pc := 50) x 2 dX10_take_50 rfl rfl ?_
      refine z_aload_n (pc := 51) x 3 dX10_take_51 rfl rfl ?_
      refine z_call (pc := 52) (z_canV (pc := 52) (As := [zP a2, zP a3]) (st := []) x (ci := 31) rfl (fun b => m_X25_holds hl (some b) a2 a3) q941 q780 (x.2.2.2.2.1 _ q781) q164 q782 n_X25_holds ⟨by decide, by decide⟩ (Nat.le_of_ble_eq_true rfl) dX10_take_52) (zv_I fun v52 => ?_) (fun q => zx_thr x (fun z hz => (htab z hz).elim) q)
      refine z_if_eq (pc := 55) (tgt := 64) x dX10_take_55 rfl (fun _ => ?_) (fun _ => ?_)
      · exact z_sub [0, 1, 2, 3] rfl (w_X10_take_64 x hl hret hnm htab h8 h23 h38 a0 a1 a2 a3)
      · refine z_aload_n (pc := 58) x 0 dX10_take_58 rfl rfl ?_
        refine z_aload_n (pc := 59) x 1 dX10_take_59 rfl rfl ?_
        refine z_aload_n (pc := 60) x 3 dX10_take_60 rfl rfl ?_
        refine z_call (pc := 61) (z_can_cons (z_canVU (pc := 61) (As := [zP a1, zP a3]) (st := []) (x9 := ⟨"BrambleLogic$Steps", "meet", "(LBrambleLogic$Rule;[I)V"⟩) (owner := "BrambleLogic$Steps") x (ci := 17) rfl (fun b => m_X11_meet hl (some b) a1 a3) q942 q944 (zDecl_ab x q943) (by decide) q978 q977 q147 q979 nx_BrambleLogic_Steps_meet__LBrambleLogic_Rule__I_V ⟨by decide, by decide⟩ (Nat.le_of_ble_eq_true rfl) dX10_take_61) (z_can_cons (z_canVU (pc := 61) (As := [zP a1, zP a3]) (st := []) (x9 := ⟨"BrambleLogic$Steps", "meet", "(LBrambleLogic$Rule;[I)V"⟩) (owner := "BrambleLogic$Steps") x (ci := 19) rfl (fun b => m_X13_meet hl (some b) a1 a3) q942 q944 (zDecl_ab x q943) (by decide) q946 q945 q149 q947 nx_BrambleLogic_Steps_meet__LBrambleLogic_Rule__I_V ⟨by decide, by decide⟩ (Nat.le_of_ble_eq_true rfl) dX10_take_61) (z_can_cons (z_canVU (pc := 61) (As := [zP a1, zP a3]) (st := []) (x9 := ⟨"BrambleLogic$Steps", "meet", "(LBrambleLogic$Rule;[I)V"⟩) (owner := "BrambleLogic$Steps") x (ci := 20) rfl (fun b => m_X14_meet hl (some b) a1 a3) q942 q944 (zDecl_ab x q943) (by decide) q965 q964 q150 q966 nx_BrambleLogic_Steps_meet__LBrambleLogic_Rule__I_V ⟨by decide, by decide⟩ (Nat.le_of_ble_eq_true rfl) dX10_take_61) (z_can_cons (z_canVU (pc := 61) (As := [zP a1, zP a3]) (st := []) (x9 := ⟨"BrambleLogic$Steps", "meet", "(LBrambleLogic$Rule;[I)V"⟩) (owner := "BrambleLogic$Steps") x (ci := 21) rfl (fun b => m_X15_meet hl (some b) a1 a3) q942 q944 (zDecl_ab x q943) (by decide) q970 q969 q151 q971 nx_BrambleLogic_Steps_meet__LBrambleLogic_Rule__I_V ⟨by decide, by decide⟩ (Nat.le_of_ble_eq_true rfl) dX10_take_61) (z_can_cons (z_canVU (pc := 61) (As := [zP a1, zP a3]) (st := []) (x9 := ⟨"BrambleLogic$Steps", "meet", "(LBrambleLogic$Rule;[I)V"⟩) (owner := "BrambleLogic$Steps") x (ci := 25) rfl (fun b => m_X19_meet hl (some b) a1 a3) q942 q944 (zDecl_ab x q943) (by decide) q975 q974 q156 q976 nx_BrambleLogic_Steps_meet__LBrambleLogic_Rule__I_V ⟨by decide, by decide⟩ (Nat.le_of_ble_eq_true rfl) dX10_take_61) (z_can_nil)))))) (zv_V ?_) (fun q => zx_thr x (fun z hz => (htab z hz).elim) q)
        exact z_sub [0, 1, 2, 3] rfl (w_X10_take_64 x hl hret hnm htab h8 h23 h38 a0 a1 a2 a3)
def s_X10_take_23 (E : zE) (k8 : Option Nat → Option Nat → Option Nat → Option Nat → zM) : Nat → Option Nat → Option Nat → Option Nat → Option Nat → zM
  | 0, _, _, _, _ => zFail
  | n + 1, a0, a1, a2, a3 => zGaI 0 a3 (1 : Int32) (fun v25 => zC (zRv a1 [(31, fun b => s_X25_range E (some b) (1 : Int32))]) zThr (zKI (fun v28 => if v28 ≤ v25 then (zGaI 0 a3 (0 : Int32) (fun v87 => zSaI E 0 a3 (0 : Int32) (v87 + (1 : Int32)) (k8 a0 a1 a2 a3))) else (zSaI E 0 a3 (2 : Int32) (0 : Int32) (s_X10_take_38 E k8 (s_X10_take_23 E k8 n) zN a0 a1 a2 a3)))))
theorem w_X10_take_23 (x : zCx p l R s m args meth c E D tA cX10_take 4 yX10_take.cls 14) (hl : l.stackTraces = false) (hret : meth.sig.returnType = (Option.none : Option Jvm.ClassFile.FieldType)) (hnm : meth.name = yX10_take.name) (htab : ∀ z ∈ c.exceptionTable.toList, False) {k8 : Option Nat → Option Nat → Option Nat → Option Nat → zM} (h8 : ∀ (a0 : Option Nat) (a1 : Option Nat) (a2 : Option Nat) (a3 : Option Nat) , zW p l e R s m args below meth c E D tA 4 k0 (k8 a0 a1 a2 a3) [(0, zP a0), (1, zP a1), (2, zP a2), (3, zP a3)] 8 []) : ∀ (n : Nat) (a0 : Option Nat) (a1 : Option Nat) (a2 : Option Nat) (a3 : Option Nat), zW p l e R s m args below meth c E D tA 4 k0 (s_X10_take_23 E k8 n a0 a1 a2 a3) [(0, zP a0), (1, zP a1), (2, zP a2), (3, zP a3)] 23 [] := by
  intro n
  induction n with
  | zero => intro a0 a1 a2 a3; exact z_fail
  | succ n h23 =>
    intro a0 a1 a2 a3
    rw [s_X10_take_23]
    refine z_aload_n (pc := 23) x 3 dX10_take_23 rfl rfl ?_
    refine z_iconst (pc := 24) x (v := (1 : Int32)) dX10_take_24 rfl ?_
    refine z_iald (pc := 25) x (t := 0) rfl dX10_take_25 fun v25 => ?_
    refine z_aload_n (pc := 26) x 1 dX10_take_26 rfl rfl ?_
    refine z_iconst (pc := 27) x (v := (1 : Int32)) dX10_take_27 rfl ?_
    refine z_call (pc := 28) (z_canV (pc := 28) (As := [zI (1 : Int32)]) (st := [zI v25]) x (ci := 31) rfl (fun b => m_X25_range hl (some b) (1 : Int32)) q937 q938 (x.2.2.2.2.1 _ q939) q164 q940 n_X25_range ⟨by decide, by decide⟩ (Nat.le_of_ble_eq_true rfl) dX10_take_28) (zv_I fun v28 => ?_) (fun q => zx_thr x (fun z hz => (htab z hz).elim) q)
    refine z_icmp_ge (pc := 31) (tgt := 84) x dX10_take_31 rfl (fun _ => ?_) (fun _ => ?_)
    · refine z_aload_n (pc := 84) x 3 dX10_take_84 rfl rfl ?_
      refine z_iconst (pc := 85) x (v := (0 : Int32)) dX10_take_85 rfl ?_
      refine z_dup2 (pc := 86) x dX10_take_86 rfl rfl ?_
      refine z_iald (pc := 87) x (t := 0) rfl dX10_take_87 fun v87 => ?_
      refine z_iconst (pc := 88) x (v := (1 : Int32)) dX10_take_88 rfl ?_
      refine z_iadd (pc := 89) x dX10_take_89 ?_
      refine z_iast (pc := 90) x (t := 0) rfl dX10_take_90 ?_
      refine z_goto (pc := 91) (tgt := 8) x dX10_take_91 rfl ?_
      exact z_sub [0, 1, 2, 3] rfl (h8 a0 a1 a2 a3)
    · refine z_aload_n (pc := 34) x 3 dX10_take_34 rfl rfl ?_
      refine z_iconst (pc := 35) x (v := (2 : Int32)) dX10_take_35 rfl ?_
      refine z_iconst (pc := 36) x (v := (0 : Int32)) dX10_take_36 rfl ?_
      refine z_iast (pc := 37) x (t := 0) rfl dX10_take_37 ?_
      exact z_sub [0, 1, 2, 3] rfl (w_X10_take_38 x hl hret hnm htab h8 h23 zN a0 a1 a2 a3)
def s_X10_take_8 (E : zE) : Nat → Option Nat → Option Nat → Option Nat → Option Nat → zM
  | 0, _, _, _, _ => zFail
  | n + 1, a0, a1, a2, a3 => zGaI 0 a3 (0 : Int32) (fun v10 => zC (zRv a1 [(31, fun b => s_X25_range E (some b) (0 : Int32))]) zThr (zKI (fun v13 => if v13 ≤ v10 then (zRet none) else (zSaI E 0 a3 (1 : Int32) (0 : Int32) (s_X10_take_23 E (s_X10_take_8 E n) zN a0 a1 a2 a3)))))
theorem w_X10_take_8 (x : zCx p l R s m args meth c E D tA cX10_take 4 yX10_take.cls 14) (hl : l.stackTraces = false) (hret : meth.sig.returnType = (Option.none : Option Jvm.ClassFile.FieldType)) (hnm : meth.name = yX10_take.name) (htab : ∀ z ∈ c.exceptionTable.toList, False) : ∀ (n : Nat) (a0 : Option Nat) (a1 : Option Nat) (a2 : Option Nat) (a3 : Option Nat), zW p l e R s m args below meth c E D tA 4 k0 (s_X10_take_8 E n a0 a1 a2 a3) [(0, zP a0), (1, zP a1), (2, zP a2), (3, zP a3)] 8 [] := by
  intro n
  induction n with
  | zero => intro a0 a1 a2 a3; exact z_fail
  | succ n h8 =>
    intro a0 a1 a2 a3
    rw [s_X10_take_8]
    refine z_aload_n (pc := 8) x 3 dX10_take_8 rfl rfl ?_
    refine z_iconst (pc := 9) x (v := (0 : Int32)) dX10_take_9 rfl ?_
    refine z_iald (pc := 10) x (t := 0) rfl dX10_take_10 fun v10 => ?_
    refine z_aload_n (pc := 11) x 1 dX10_take_11 rfl rfl ?_
    refine z_iconst (pc := 12) x (v := (0 : Int32)) dX10_take_12 rfl ?_
    refine z_call (pc := 13) (z_canV (pc := 13) (As := [zI (0 : Int32)]) (st := [zI v10]) x (ci := 31) rfl (fun b => m_X25_range hl (some b) (0 : Int32)) q937 q938 (x.2.2.2.2.1 _ q939) q164 q940 n_X25_range ⟨by decide, by decide⟩ (Nat.le_of_ble_eq_true rfl) dX10_take_13) (zv_I fun v13 => ?_) (fun q => zx_thr x (fun z hz => (htab z hz).elim) q)
    refine z_icmp_ge (pc := 16) (tgt := 94) x dX10_take_16 rfl (fun _ => ?_) (fun _ => ?_)
    · exact z_vret (pc := 94) x hret dX10_take_94
    · refine z_aload_n (pc := 19) x 3 dX10_take_19 rfl rfl ?_
      refine z_iconst (pc := 20) x (v := (1 : Int32)) dX10_take_20 rfl ?_
      refine z_iconst (pc := 21) x (v := (0 : Int32)) dX10_take_21 rfl ?_
      refine z_iast (pc := 22) x (t := 0) rfl dX10_take_22 ?_
      exact z_sub [0, 1, 2, 3] rfl (w_X10_take_23 x hl hret hnm htab h8 zN a0 a1 a2 a3)
def s_X10_take (E : zE) (a0 : Option Nat) (a1 : Option Nat) (a2 : Option Nat) : zM := zNewA 0 zAr0 (3 : Int32) (fun v1 => zSaI E 0 v1 (0 : Int32) (0 : Int32) (s_X10_take_8 E zN a0 a1 a2 v1))
theorem m_X10_take {l : Launch} {E : zE} {D : va_G} {tA : Nat → ClassId} (hl : l.stackTraces = false) (a0 : Option Nat) (a1 : Option Nat) (a2 : Option Nat) : zMet l E D tA yX10_take (ws_ yX10_take cX10_take 4 (Option.none : Option Jvm.ClassFile.FieldType)) 14 (s_X10_take E a0 a1 a2) [zP a0, zP a1, zP a2] := by
  refine z_met hl (by decide +kernel) (by rw [zSl_len]; exact (Nat.le_of_ble_eq_true rfl)) fun p e R s m args below meth c k0 x hret hnm htab => ?_
  refine z_lv [(0, zP a0), (1, zP a1), (2, zP a2)] rfl ?_
  unfold s_X10_take
  refine z_iconst (pc := 0) x (v := (3 : Int32)) dX10_take_0 rfl ?_
  refine z_newA (pc := 1) x (ty := .int) rfl (by decide) rfl q240 (fun _ _ => rfl) dX10_take_1 fun v1 => ?_
  refine z_astore_n (pc := 3) (lv' := [(3, zP v1), (0, zP a0), (1, zP a1), (2, zP a2)]) x dX10_take_3 rfl (Nat.le_of_ble_eq_true rfl) rfl ?_
  refine z_aload_n (pc := 4) x 0 dX10_take_4 rfl rfl ?_
  refine z_iconst (pc := 5) x (v := (0 : Int32)) dX10_take_5 rfl ?_
  refine z_iconst (pc := 6) x (v := (0 : Int32)) dX10_take_6 rfl ?_
  refine z_iast (pc := 7) x (t := 0) rfl dX10_take_7 ?_
  exact z_sub [1, 2, 3, 0] rfl (w_X10_take_8 x hl hret hnm htab zN a0 a1 a2 v1)
/-! X11_close -/
def s_X11_close_24 (E : zE) (k5 : Option Nat → Option Nat → zM) : Nat → Option Nat → Option Nat → Option Nat → zM
  | 0, _, _, _ => zFail
  | n + 1, a0, a1, a2 => zC (zRv a2 [(11, fun b => s_J22_hasNext E (some b))]) zThr (zKI (fun v25 => if v25 = 0 then (k5 a0 a1) else (zC (zRv a2 [(11, fun b => s_J22_next E (some b))]) zThr (zKR (fun v34 => zCsS 31 v34 (zGetR a0 17 0 (fun v46 => zC (zRv a0 [(17, fun b => s_X10_take E (some b) v34 v46)]) zThr (zKV ((s_X11_close_24 E k5 n) a0 a1 a2)))))))))
theorem w_X11_close_24 (x : zCx p l R s m args meth c E D tA cX11_close 4 yX11_close.cls 15) (hl : l.stackTraces = false) (hret : meth.sig.returnType = (Option.none : Option Jvm.ClassFile.FieldType)) (hnm : meth.name = yX11_close.name) (htab : ∀ z ∈ c.exceptionTable.toList, False) {k5 : Option Nat → Option Nat → zM} (h5 : ∀ (a0 : Option Nat) (a1 : Option Nat) , zW p l e R s m args below meth c E D tA 4 k0 (k5 a0 a1) [(0, zP a0), (1, zP a1)] 5 []) : ∀ (n : Nat) (a0 : Option Nat) (a1 : Option Nat) (a2 : Option Nat), zW p l e R s m args below meth c E D tA 4 k0 (s_X11_close_24 E k5 n a0 a1 a2) [(0, zP a0), (1, zP a1), (2, zP a2)] 24 [] := by
  intro n
  induction n with
  | zero => intro a0 a1 a2; exact z_fail
  | succ n h24 =>
    intro a0 a1 a2
    rw [s_X11_close_24]
    refine z_aload_n (pc := 24) x 2 dX11_close_24 rfl rfl ?_
    refine z_call (pc := 25) (z_canIF (pc := 25) (As := []) (st := []) (x9 := ⟨"java/util/Iterator", "hasNext", "()Z"⟩) x (ci := 11) rfl (fun b => m_J22_hasNext hl (some b)) q927 q413 q412 (by decide) q415 q417 q418 q416 q414 q139 q419 nx_java_util_Iterator_hasNext___Z ⟨by decide, by decide⟩ (Nat.le_of_ble_eq_true rfl) dX11_close_25) (zv_I fun v25 => ?_) (fun q => zx_thr x (fun z hz => (htab z hz).elim) q)
    refine z_if_eq (pc := 30) (tgt := 55) x dX11_close_30 rfl (fun _ => ?_) (fun _ => ?_)
    · refine z_goto (pc := 55) (tgt := 5) x dX11_close_55 rfl ?_
      exact z_sub [0, 1] rfl (h5 a0 a1)
    · refine z_aload_n (pc := 33) x 2 dX11_close_33 rfl rfl ?_
      refine z_call (pc := 34) (z_canIF (pc := 34) (As := []) (st := []) (x9 := ⟨"java/util/Iterator", "next", "()Ljava/lang/Object;"⟩) x (ci := 11) rfl (fun b => m_J22_next hl (some b)) q929 q423 q422 (by decide) q424 q426 q427 q425 q414 q139 q428 nx_java_util_Iterator_next___Ljava_lang_Object_ ⟨by decide, by decide⟩ (Nat.le_of_ble_eq_true rfl) dX11_close_34) (zv_R fun v34 => ?_) (fun q => zx_thr x (fun z hz => (htab z hz).elim) q)
      refine z_csS (pc := 39) x (ci := 31) rfl q930 dX11_close_39 ?_
      refine z_astore_n (pc := 42) (lv' := [(3, zP v34), (0, zP a0), (1, zP a1), (2, zP a2)]) x dX11_close_42 rfl (Nat.le_of_ble_eq_true rfl) rfl ?_
      refine z_aload_n (pc := 43) x 1 dX11_close_43 rfl rfl ?_
      refine z_aload_n (pc := 44) x 0 dX11_close_44 rfl rfl ?_
      refine z_aload_n (pc := 45) x 1 dX11_close_45 rfl rfl ?_
      refine z_get (pc := 46) (fun _ _ h => zAsR_eq h) x in_X11 (ci := 17) rfl (k := 0) (by decide) q912 (fun _ h => h) dX11_close_46 fun v46 => ?_
      refine z_call (pc := 49) (z_canVU (pc := 49) (As := [zP v34, zP v46]) (st := []) (x9 := ⟨"BrambleLogic$Trying", "take", "(LBrambleLogic$Rule;LBrambleLogic$Facts;)V"⟩) (owner := "BrambleLogic$Steps") x (ci := 17) rfl (fun b => m_X10_take hl (some b) v34 v46) q931 q932 (zDecl_ab x q933) (by decide) q935 q934 q146 q936 nx_BrambleLogic_Trying_take__LBrambleLogic_Rule_LBrambleLogic_Facts__V ⟨by decide, by decide⟩ (Nat.le_of_ble_eq_true rfl) dX11_close_49) (zv_V ?_) (fun q => zx_thr x (fun z hz => (htab z hz).elim) q)
      refine z_goto (pc := 52) (tgt := 24) x dX11_close_52 rfl ?_
      exact z_sub [1, 2, 3] rfl (h24 a0 a1 a2)
def s_X11_close_5 (E : zE) : Nat → Option Nat → Option Nat → zM
  | 0, _, _ => zFail
  | n + 1, a0, a1 => zGetI a0 17 1 (fun v6 => if v6 = 0 then (zRet none) else (zSetN E .boolean a0 17 1 (0 : Int32) (zC (zRv a1 [(10, fun b => s_J2_iterator E (some b))]) zThr (zKR (fun v18 => s_X11_close_24 E (s_X11_close_5 E n) zN a0 a1 v18)))))
theorem w_X11_close_5 (x : zCx p l R s m args meth c E D tA cX11_close 4 yX11_close.cls 15) (hl : l.stackTraces = false) (hret : meth.sig.returnType = (Option.none : Option Jvm.ClassFile.FieldType)) (hnm : meth.name = yX11_close.name) (htab : ∀ z ∈ c.exceptionTable.toList, False) : ∀ (n : Nat) (a0 : Option Nat) (a1 : Option Nat), zW p l e R s m args below meth c E D tA 4 k0 (s_X11_close_5 E n a0 a1) [(0, zP a0), (1, zP a1)] 5 [] := by
  intro n
  induction n with
  | zero => intro a0 a1; exact z_fail
  | succ n h5 =>
    intro a0 a1
    rw [s_X11_close_5]
    refine z_aload_n (pc := 5) x 0 dX11_close_5 rfl rfl ?_
    refine z_get (pc := 6) (fun _ _ h => zAsI_eq h) x in_X11 (ci := 17) rfl (k := 1) (by decide) q914 (fun _ h => h) dX11_close_6 fun v6 => ?_
    refine z_if_eq (pc := 9) (tgt := 58) x dX11_close_9 rfl (fun _ => ?_) (fun _ => ?_)
    · exact z_vret (pc := 58) x hret dX11_close_58
    · refine z_aload_n (pc := 12) x 0 dX11_close_12 rfl rfl ?_
      refine z_iconst (pc := 13) x (v := (0 : Int32)) dX11_close_13 rfl ?_
      refine z_set_small fun hn hf => ?_
      refine z_set (pc := 14) (v := zI (0 : Int32)) x in_X11 tyX11 tyX11_ok nmX11 (ci := 17) rfl (k := 1) (by decide) q914 (fun _ h => h) rfl hn hf dX11_close_14 ?_
      refine z_aload_n (pc := 17) x 1 dX11_close_17 rfl rfl ?_
      refine z_call (pc := 18) (z_canIF (pc := 18) (As := []) (st := []) (x9 := ⟨"java/util/List", "iterator", "()Ljava/util/Iterator;"⟩) x (ci := 10) rfl (fun b => m_J2_iterator hl (some b)) q925 q383 q382 (by decide) q385 q387 q388 q386 q384 q112 q389 nx_java_util_List_iterator___Ljava_util_Iterator_ ⟨by decide, by decide⟩ (Nat.le_of_ble_eq_true rfl) dX11_close_18) (zv_R fun v18 => ?_) (fun q => zx_thr x (fun z hz => (htab z hz).elim) q)
      refine z_astore_n (pc := 23) (lv' := [(2, zP v18), (0, zP a0), (1, zP a1)]) x dX11_close_23 rfl (Nat.le_of_ble_eq_true rfl) rfl ?_
      exact z_sub [1, 2, 0] rfl (w_X11_close_24 x hl hret hnm htab h5 zN a0 a1 v18)
def s_X11_close (E : zE) (a0 : Option Nat) (a1 : Option Nat) : zM := zSetN E .boolean a0 17 1 (1 : Int32) (s_X11_close_5 E zN a0 a1)
theorem m_X11_close {l : Launch} {E : zE} {D : va_G} {tA : Nat → ClassId} (hl : l.stackTraces = false) (a0 : Option Nat) (a1 : Option Nat) : zMet l E D tA yX11_close (ws_ yX11_close cX11_close 4 (Option.none : Option Jvm.ClassFile.FieldType)) 15 (s_X11_close E a0 a1) [zP a0, zP a1] := by
  refine z_met hl (by decide +kernel) (by rw [zSl_len]; exact (Nat.le_of_ble_eq_true rfl)) fun p e R s m args below meth c k0 x hret hnm htab => ?_
  refine z_lv [(0, zP a0), (1, zP a1)] rfl ?_
  unfold s_X11_close
  refine z_aload_n (pc := 0) x 0 dX11_close_0 rfl rfl ?_
  refine z_iconst (pc := 1) x (v := (1 : Int32)) dX11_close_1 rfl ?_
  refine z_set_small fun hn hf => ?_
  refine z_set (pc := 2) (v := zI (1 : Int32)) x in_X11 tyX11 tyX11_ok nmX11 (ci := 17) rfl (k := 1) (by decide) q914 (fun _ h => h) rfl hn hf dX11_close_2 ?_
  exact z_sub [0, 1] rfl (w_X11_close_5 x hl hret hnm htab zN a0 a1)
/-! X2_byTrying -/
def s_X2_byTrying_29 (E : zE) : Nat → Option Nat → Option Nat → Option Nat → Int32 → zM
  | 0, _, _, _, _ => zFail
  | n + 1, a0, a1, a2, a3 => if (8 : Int32) ≤ a3 then (zGetR a2 17 0 (fun v52 => zRet (some (va_rf v52)))) else (zC (zRv a0 [(26, fun b => s_X2_rulesOf E (some b) a3 a1)]) zThr (zKR (fun v39 => zC (zRv a2 [(17, fun b => s_X11_close E (some b) v39)]) zThr (zKV ((s_X2_byTrying_29 E n) a0 a1 a2 (a3 + (1 : Int32)))))))
theorem w_X2_byTrying_29 (x : zCx p l R s m args meth c E D tA cX2_byTrying 4 yX2_byTrying.cls 16) (hl : l.stackTraces = false) (hret : meth.sig.returnType = (Option.some (Jvm.ClassFile.FieldType.object "BrambleLogic$Facts"))) (hnm : meth.name = yX2_byTrying.name) (htab : ∀ z ∈ c.exceptionTable.toList, False) : ∀ (n : Nat) (a0 : Option Nat) (a1 : Option Nat) (a2 : Option Nat) (a3 : Int32), zW p l e R s m args below meth c E D tA 4 k0 (s_X2_byTrying_29 E n a0 a1 a2 a3) [(0, zP a0), (1, zP a1), (2, zP a2), (3, zI a3)] 29 [] := by
  intro n
  induction n with
  | zero => intro a0 a1 a2 a3; exact z_fail
  | succ n h29 =>
    intro a0 a1 a2 a3
    rw [s_X2_byTrying_29]
    refine z_iload_n (pc := 29) x 3 dX2_byTrying_29 rfl rfl ?_
    refine z_bipush (pc := 30) x (v := (8 : Int32)) dX2_byTrying_30 rfl ?_
    refine z_icmp_ge (pc := 32) (tgt := 51) x dX2_byTrying_32 rfl (fun _ => ?_) (fun _ => ?_)
    · refine z_aload_n (pc := 51) x 2 dX2_byTrying_51 rfl rfl ?_
      refine z_getN (pc := 52) (fun _ _ h => zAsR_eq h) x in_X11 (ci := 17) rfl (k := 0) (by decide) q913 (fun _ h => h) dX2_byTrying_52 fun v52 => ?_
      exact z_aret (pc := 55) x hret (Or.inl ⟨_, rfl⟩) dX2_byTrying_55
    · refine z_aload_n (pc := 35) x 2 dX2_byTrying_35 rfl rfl ?_
      refine z_aload_n (pc := 36) x 0 dX2_byTrying_36 rfl rfl ?_
      refine z_iload_n (pc := 37) x 3 dX2_byTrying_37 rfl rfl ?_
      refine z_aload_n (pc := 38) x 1 dX2_byTrying_38 rfl rfl ?_
      refine z_call (pc := 39) (z_canV (pc := 39) (As := [zI a3, zP a1]) (st := [zP a2]) x (ci := 26) rfl (fun b => m_X2_rulesOf hl (some b) a3 a1) q646 q648 (z_selP x (ci := 26) rfl (by decide) (zNi_inst x q176) q647 q648) q109 q649 n_X2_rulesOf ⟨by decide, by decide⟩ (Nat.le_of_ble_eq_true rfl) dX2_byTrying_39) (zv_R fun v39 => ?_) (fun q => zx_thr x (fun z hz => (htab z hz).elim) q)
      refine z_call (pc := 42) (z_canV (pc := 42) (As := [zP v39]) (st := []) x (ci := 17) rfl (fun b => m_X11_close hl (some b) v39) q920 q921 (x.2.2.2.2.1 _ q922) q147 q923 n_X11_close ⟨by decide, by decide⟩ (Nat.le_of_ble_eq_true rfl) dX2_byTrying_42) (zv_V ?_) (fun q => zx_thr x (fun z hz => (htab z hz).elim) q)
      refine z_iinc (pc := 45) (lv' := [(3, zI (a3 + (1 : Int32))), (0, zP a0), (1, zP a1), (2, zP a2)]) x (v2 := (a3 + (1 : Int32))) 3 dX2_byTrying_45 rfl rfl (Nat.le_of_ble_eq_true rfl) rfl ?_
      refine z_goto (pc := 48) (tgt := 29) x dX2_byTrying_48 rfl ?_
      exact z_sub [1, 2, 3, 0] rfl (h29 a0 a1 a2 (a3 + (1 : Int32)))
def s_X2_byTrying (E : zE) (a0 : Option Nat) : zM := zNew 35 2 [.null, .null] (fun v0 => zGetR a0 26 1 (fun v5 => zC (zSp v0 (fun b => s_X7_init E (some b) v5)) zThr (zKV (zC (zRv v0 [(35, fun b => s_X7_layers E (some b))]) zThr (zKR (fun v11 => zNew 17 2 [.null, .int 0] (fun v15 => zGetR a0 26 0 (fun v20 => zC (zSp v15 (fun b => s_X11_init E (some b) v20)) zThr (zKV (s_X2_byTrying_29 E zN a0 v11 v15 (0 : Int32)))))))))))
theorem m_X2_byTrying {l : Launch} {E : zE} {D : va_G} {tA : Nat → ClassId} (hl : l.stackTraces = false) (a0 : Option Nat) : zMet l E D tA yX2_byTrying (ws_ yX2_byTrying cX2_byTrying 4 (Option.some (Jvm.ClassFile.FieldType.object "BrambleLogic$Facts"))) 16 (s_X2_byTrying E a0) [zP a0] := by
  refine z_met hl (by decide +kernel) (by rw [zSl_len]; exact (Nat.le_of_ble_eq_true rfl)) fun p e R s m args below meth c k0 x hret hnm htab => ?_
  refine z_lv [(0, zP a0)] rfl ?_
  unfold s_X2_byTrying
  refine z_new (pc := 0) x in_X7 tyX7 tyX7_ok q372 q373 q138 (ci := 35) rfl (by decide) (by decide +kernel) dX2_byTrying_0 fun v0 => ?_
  refine z_dup (pc := 3) x dX2_byTrying_3 rfl ?_
  refine z_aload_n (pc := 4) x 0 dX2_byTrying_4 rfl rfl ?_
  refine z_get (pc := 5) (fun _ _ h => zAsR_eq h) x in_X2 (ci := 26) rfl (k := 1) (by decide) q252 (fun _ h => h) dX2_byTrying_5 fun v5 => ?_
  refine z_call (pc := 8) (z_canI (pc := 8) (ret := none) (As := [zP v5]) (st := [zP v0]) x (fun b => m_X7_init hl (some b) v5) q374 rfl q375 q138 q376 n_X7_init ⟨by decide, by decide⟩ (Nat.le_of_ble_eq_true rfl) dX2_byTrying_8) (zv_V ?_) (fun q => zx_thr x (fun z hz => (htab z hz).elim) q)
  refine z_call (pc := 11) (z_canV (pc := 11) (As := []) (st := []) x (ci := 35) rfl (fun b => m_X7_layers hl (some b)) q601 q602 (x.2.2.2.2.1 _ q603) q138 q604 n_X7_layers ⟨by decide, by decide⟩ (Nat.le_of_ble_eq_true rfl) dX2_byTrying_11) (zv_R fun v11 => ?_) (fun q => zx_thr x (fun z hz => (htab z hz).elim) q)
  refine z_astore_n (pc := 14) (lv' := [(1, zP v11), (0, zP a0)]) x dX2_byTrying_14 rfl (Nat.le_of_ble_eq_true rfl) rfl ?_
  refine z_new (pc := 15) x in_X11 tyX11 tyX11_ok q901 q902 q147 (ci := 17) rfl (by decide) (by decide +kernel) dX2_byTrying_15 fun v15 => ?_
  refine z_dup (pc := 18) x dX2_byTrying_18 rfl ?_
  refine z_aload_n (pc := 19) x 1 dX2_byTrying_19 rfl rfl ?_
  refine z_get (pc := 20) (fun _ _ h => zAsR_eq h) x in_X2 (ci := 26) rfl (k := 0) (by decide) q248 (fun _ h => h) dX2_byTrying_20 fun v20 => ?_
  refine z_call (pc := 23) (z_canI (pc := 23) (ret := none) (As := [zP v20]) (st := [zP v15]) x (fun b => m_X11_init hl (some b) v20) q903 rfl q904 q147 q905 n_X11_init ⟨by decide, by decide⟩ (Nat.le_of_ble_eq_true rfl) dX2_byTrying_23) (zv_V ?_) (fun q => zx_thr x (fun z hz => (htab z hz).elim) q)
  refine z_astore_n (pc := 26) (lv' := [(2, zP v15), (1, zP v11), (0, zP a0)]) x dX2_byTrying_26 rfl (Nat.le_of_ble_eq_true rfl) rfl ?_
  refine z_iconst (pc := 27) x (v := (0 : Int32)) dX2_byTrying_27 rfl ?_
  refine z_istore_n (pc := 28) (lv' := [(3, zI (0 : Int32)), (2, zP v15), (1, zP v11), (0, zP a0)]) x dX2_byTrying_28 rfl (Nat.le_of_ble_eq_true rfl) rfl ?_
  exact z_sub [3, 2, 1, 0] rfl (w_X2_byTrying_29 x hl hret hnm htab zN a0 v11 v15 (0 : Int32))
/-! X1_isTrueByTrying -/
def s_X1_isTrueByTrying (E : zE) (a0 : Option Nat) (a1 : Int32) (a2 : Int32) (a3 : Int32) : zM := zC (s_X1_requireCode E a1 a2 a3) zThr (zKI (fun v3 => zGetR a0 16 0 (fun v9 => zC (zRv v9 [(26, fun b => s_X2_byTrying E (some b))]) zThr (zKR (fun v12 => zC (zRv v12 [(32, fun b => s_X4_has E (some b) (a1 - (97 : Int32)) v3)]) zThr (zKI (fun v21 => zRetN .boolean v21)))))))
theorem m_X1_isTrueByTrying {l : Launch} {E : zE} {D : va_G} {tA : Nat → ClassId} (hl : l.stackTraces = false) (a0 : Option Nat) (a1 : Int32) (a2 : Int32) (a3 : Int32) : zMet l E D tA yX1_isTrueByTrying (ws_ yX1_isTrueByTrying cX1_isTrueByTrying 5 (Option.some Jvm.ClassFile.FieldType.boolean)) 17 (s_X1_isTrueByTrying E a0 a1 a2 a3) [zP a0, zI a1, zI a2, zI a3] := by
  refine z_met hl (by decide +kernel) (by rw [zSl_len]; exact (Nat.le_of_ble_eq_true rfl)) fun p e R s m args below meth c k0 x hret hnm htab => ?_
  refine z_lv [(0, zP a0), (1, zI a1), (2, zI a2), (3, zI a3)] rfl ?_
  unfold s_X1_isTrueByTrying
  refine z_iload_n (pc := 0) x 1 dX1_isTrueByTrying_0 rfl rfl ?_
  refine z_iload_n (pc := 1) x 2 dX1_isTrueByTrying_1 rfl rfl ?_
  refine z_iload_n (pc := 2) x 3 dX1_isTrueByTrying_2 rfl rfl ?_
  refine z_call (pc := 3) (z_canS (pc := 3) (As := [zI a1, zI a2, zI a3]) (st := []) x (m_X1_requireCode hl a1 a2 a3) q1740 q1517 q108 q1518 n_X1_requireCode ⟨by decide, by decide⟩ (Nat.le_of_ble_eq_true rfl) dX1_isTrueByTrying_3) (zv_I fun v3 => ?_) (fun q => zx_thr x (fun z hz => (htab z hz).elim) q)
  refine z_istore (pc := 6) (lv' := [(4, zI v3), (0, zP a0), (1, zI a1), (2, zI a2), (3, zI a3)]) x dX1_isTrueByTrying_6 (Nat.le_of_ble_eq_true rfl) rfl ?_
  refine z_aload_n (pc := 8) x 1 dX1_isTrueByTrying_8 rfl rfl ?_
  refine z_get (pc := 9) (fun _ _ h => zAsR_eq h) x in_X1 (ci := 16) rfl (k := 0) (by decide) q320 (fun _ h => h) dX1_isTrueByTrying_9 fun v9 => ?_
  refine z_call (pc := 12) (z_canV (pc := 12) (As := []) (st := []) x (ci := 26) rfl (fun b => m_X2_byTrying hl (some b)) q1756 q898 (x.2.2.2.2.1 _ q899) q109 q900 n_X2_byTrying ⟨by decide, by decide⟩ (Nat.le_of_ble_eq_true rfl) dX1_isTrueByTrying_12) (zv_R fun v12 => ?_) (fun q => zx_thr x (fun z hz => (htab z hz).elim) q)
  refine z_iload_n (pc := 15) x 2 dX1_isTrueByTrying_15 rfl rfl ?_
  refine z_bipush (pc := 16) x (v := (97 : Int32)) dX1_isTrueByTrying_16 rfl ?_
  refine z_isub (pc := 18) x dX1_isTrueByTrying_18 ?_
  refine z_iload (pc := 19) x 0 dX1_isTrueByTrying_19 rfl ?_
  refine z_call (pc := 21) (z_canV (pc := 21) (As := [zI (a1 - (97 : Int32)), zI v3]) (st := []) x (ci := 32) rfl (fun b => m_X4_has hl (some b) (a1 - (97 : Int32)) v3) q1741 q814 (x.2.2.2.2.1 _ q815) q114 q816 n_X4_has ⟨by decide, by decide⟩ (Nat.le_of_ble_eq_true rfl) dX1_isTrueByTrying_21) (zv_I fun v21 => ?_) (fun q => zx_thr x (fun z hz => (htab z hz).elim) q)
  exact z_zret (pc := 24) x hret dX1_isTrueByTrying_24
/-! X0_isTrueByTrying -/
def s_X0_isTrueByTrying_18 (E : zE) (b0 : Option Nat) (b1 : Int32) (b2 : Int64) : zM := zSaL E 3 b0 b1 b2 (zRet (some (.int (0 : Int32))))
theorem w_X0_isTrueByTrying_18 (x : zCx p l R s m args meth c E D tA cX0_isTrueByTrying 6 yX0_isTrueByTrying.cls 18) (hl : l.stackTraces = false) (hret : meth.sig.returnType = (Option.some Jvm.ClassFile.FieldType.int)) (hnm : meth.name = yX0_isTrueByTrying.name) (htab : c.exceptionTable.toList = tableOf [(0, 19, 22, 13)]) (b0 : Option Nat) (b1 : Int32) (b2 : Int64) : zW p l e R s m args below meth c E D tA 6 k0 (s_X0_isTrueByTrying_18 E b0 b1 b2) [] 18 [zL b2, zI b1, zP b0] := by
  unfold s_X0_isTrueByTrying_18
  refine z_last (pc := 18) x (t := 3) rfl dX0_isTrueByTrying_18 ?_
  refine z_goto (pc := 19) (tgt := 26) x dX0_isTrueByTrying_19 rfl ?_
  refine z_iconst (pc := 26) x (v := (0 : Int32)) dX0_isTrueByTrying_26 rfl ?_
  exact z_iret (pc := 27) x hret dX0_isTrueByTrying_27
def s_X0_isTrueByTrying_22 (E : zE) (b0 : Option Nat) : zM := zRet (some (.int (1 : Int32)))
theorem w_X0_isTrueByTrying_22 (x : zCx p l R s m args meth c E D tA cX0_isTrueByTrying 6 yX0_isTrueByTrying.cls 18) (hl : l.stackTraces = false) (hret : meth.sig.returnType = (Option.some Jvm.ClassFile.FieldType.int)) (hnm : meth.name = yX0_isTrueByTrying.name) (htab : c.exceptionTable.toList = tableOf [(0, 19, 22, 13)]) (b0 : Option Nat) : zW p l e R s m args below meth c E D tA 6 k0 (s_X0_isTrueByTrying_22 E b0) [] 22 [zP b0] := by
  unfold s_X0_isTrueByTrying_22
  refine z_astore (pc := 22) (lv' := [(5, zP b0)]) x dX0_isTrueByTrying_22 (Nat.le_of_ble_eq_true rfl) rfl ?_
  refine z_iconst (pc := 24) x (v := (1 : Int32)) dX0_isTrueByTrying_24 rfl ?_
  exact z_iret (pc := 25) x hret dX0_isTrueByTrying_25
def s_X0_isTrueByTrying (E : zE) (a0 : Option Nat) (a1 : Int32) (a2 : Int32) (a3 : Int32) (a4 : Option Nat) : zM := zC (zRv a0 [(16, fun b => s_X1_isTrueByTrying E (some b) a1 a2 a3)]) (fun q => zCat1 q [(0, s_X0_isTrueByTrying_22 E (some q))]) (zKI (fun v7 => if v7 = 0 then (s_X0_isTrueByTrying_18 E a4 (0 : Int32) (0 : Int64)) else (s_X0_isTrueByTrying_18 E a4 (0 : Int32) (1 : Int64))))
theorem m_X0_isTrueByTrying {l : Launch} {E : zE} {D : va_G} {tA : Nat → ClassId} (hl : l.stackTraces = false) (a0 : Option Nat) (a1 : Int32) (a2 : Int32) (a3 : Int32) (a4 : Option Nat) : zMet l E D tA yX0_isTrueByTrying (wsW_ yX0_isTrueByTrying cX0_isTrueByTrying 6 (Option.some Jvm.ClassFile.FieldType.int) [(0, 19, 22, 13)]) 18 (s_X0_isTrueByTrying E a0 a1 a2 a3 a4) [zP a0, zI a1, zI a2, zI a3, zP a4] := by
  refine z_metW hl (by decide +kernel) (by rw [zSl_len]; exact (Nat.le_of_ble_eq_true rfl)) fun p e R s m args below meth c k0 x hret hnm htab => ?_
  refine z_lv [(0, zP a0), (1, zI a1), (2, zI a2), (3, zI a3), (4, zP a4)] rfl ?_
  unfold s_X0_isTrueByTrying
  refine z_aload (pc := 0) x 4 dX0_isTrueByTrying_0 rfl ?_
  refine z_iconst (pc := 2) x (v := (0 : Int32)) dX0_isTrueByTrying_2 rfl ?_
  refine z_aload_n (pc := 3) x 0 dX0_isTrueByTrying_3 rfl rfl ?_
  refine z_iload_n (pc := 4) x 1 dX0_isTrueByTrying_4 rfl rfl ?_
  refine z_iload_n (pc := 5) x 2 dX0_isTrueByTrying_5 rfl rfl ?_
  refine z_iload_n (pc := 6) x 3 dX0_isTrueByTrying_6 rfl rfl ?_
  refine z_call (pc := 7) (z_canV (pc := 7) (As := [zI a1, zI a2, zI a3]) (st := [zI (0 : Int32), zP a4]) x (ci := 16) rfl (fun b => m_X1_isTrueByTrying hl (some b) a1 a2 a3) q1752 q1753 (x.2.2.2.2.1 _ q1754) q108 q1755 n_X1_isTrueByTrying ⟨by decide, by decide⟩ (Nat.le_of_ble_eq_true rfl) dX0_isTrueByTrying_7) (zv_I fun v7 => ?_) (fun q => zx_cat x [(0, s_X0_isTrueByTrying_22 E (some q), ⟨0, 19, 22, 13⟩)] htab (List.forall_mem_cons.mpr ⟨⟨rfl, (show (13 : Nat) ≠ 0 by decide), q1462, z_sub [] rfl (w_X0_isTrueByTrying_22 x hl hret hnm htab (some q))⟩, (fun _ hj => nomatch hj)⟩))
  refine z_if_eq (pc := 10) (tgt := 17) x dX0_isTrueByTrying_10 rfl (fun _ => ?_) (fun _ => ?_)
  · refine z_lconst (pc := 17) x (v := (0 : Int64)) dX0_isTrueByTrying_17 rfl ?_
    exact z_sub [] rfl (w_X0_isTrueByTrying_18 x hl hret hnm htab a4 (0 : Int32) (0 : Int64))
  · refine z_lconst (pc := 13) x (v := (1 : Int64)) dX0_isTrueByTrying_13 rfl ?_
    refine z_goto (pc := 14) (tgt := 18) x dX0_isTrueByTrying_14 rfl ?_
    exact z_sub [] rfl (w_X0_isTrueByTrying_18 x hl hret hnm htab a4 (0 : Int32) (1 : Int64))
/-! X1_trueCount -/
def s_X1_trueCount (E : zE) (a0 : Option Nat) (a1 : Int32) : zM := zGetR a0 16 0 (fun v1 => zC (zRv v1 [(26, fun b => s_X2_facts E (some b))]) zThr (zKR (fun v4 => zGetR v4 32 0 (fun v7 => zC (s_X1_requirePredicate E a1) zThr (zKI (fun v11 => zGaR 6 v7 v11 (fun v14 => zC (zRv v14 [(33, fun b => s_X5_count E (some b))]) zThr (zKI (fun v15 => zRet (some (.int v15)))))))))))
theorem m_X1_trueCount {l : Launch} {E : zE} {D : va_G} {tA : Nat → ClassId} (hl : l.stackTraces = false) (a0 : Option Nat) (a1 : Int32) : zMet l E D tA yX1_trueCount (ws_ yX1_trueCount cX1_trueCount 2 (Option.some Jvm.ClassFile.FieldType.int)) 73 (s_X1_trueCount E a0 a1) [zP a0, zI a1] := by
  refine z_met hl (by decide +kernel) (by rw [zSl_len]; exact (Nat.le_of_ble_eq_true rfl)) fun p e R s m args below meth c k0 x hret hnm htab => ?_
  refine z_lv [(0, zP a0), (1, zI a1)] rfl ?_
  unfold s_X1_trueCount
  refine z_aload_n (pc := 0) x 0 dX1_trueCount_0 rfl rfl ?_
  refine z_get (pc := 1) (fun _ _ h => zAsR_eq h) x in_X1 (ci := 16) rfl (k := 0) (by decide) q320 (fun _ h => h) dX1_trueCount_1 fun v1 => ?_
  refine z_call (pc := 4) (z_canV (pc := 4) (As := []) (st := []) x (ci := 26) rfl (fun b => m_X2_facts hl (some b)) q368 q369 (x.2.2.2.2.1 _ q370) q109 q371 n_X2_facts ⟨by decide, by decide⟩ (Nat.le_of_ble_eq_true rfl) dX1_trueCount_4) (zv_R fun v4 => ?_) (fun q => zx_thr x (fun z hz => (htab z hz).elim) q)
  refine z_getN (pc := 7) (fun _ _ h => zAsR_eq h) x in_X4 (ci := 32) rfl (k := 0) (by decide) q244 (fun _ h => h) dX1_trueCount_7 fun v7 => ?_
  refine z_iload_n (pc := 10) x 1 dX1_trueCount_10 rfl rfl ?_
  refine z_call (pc := 11) (z_canS (pc := 11) (As := [zI a1]) (st := [zP v7]) x (m_X1_requirePredicate hl a1) q1519 q1520 q108 q1521 n_X1_requirePredicate ⟨by decide, by decide⟩ (Nat.le_of_ble_eq_true rfl) dX1_trueCount_11) (zv_I fun v11 => ?_) (fun q => zx_thr x (fun z hz => (htab z hz).elim) q)
  refine z_aald (pc := 14) x (t := 6) rfl rfl dX1_trueCount_14 fun v14 => ?_
  refine z_call (pc := 15) (z_canV (pc := 15) (As := []) (st := []) x (ci := 33) rfl (fun b => m_X5_count hl (some b)) q1764 q355 (x.2.2.2.2.1 _ q356) q115 q357 n_X5_count ⟨by decide, by decide⟩ (Nat.le_of_ble_eq_true rfl) dX1_trueCount_15) (zv_I fun v15 => ?_) (fun q => zx_thr x (fun z hz => (htab z hz).elim) q)
  exact z_iret (pc := 18) x hret dX1_trueCount_18
/-! X0_trueCount -/
def s_X0_trueCount_12 (E : zE) (b0 : Option Nat) : zM := zRet (some (.int (1 : Int32)))
theorem w_X0_trueCount_12 (x : zCx p l R s m args meth c E D tA cX0_trueCount 4 yX0_trueCount.cls 74) (hl : l.stackTraces = false) (hret : meth.sig.returnType = (Option.some Jvm.ClassFile.FieldType.int)) (hnm : meth.name = yX0_trueCount.name) (htab : c.exceptionTable.toList = tableOf [(0, 9, 12, 13)]) (b0 : Option Nat) : zW p l e R s m args below meth c E D tA 4 k0 (s_X0_trueCount_12 E b0) [] 12 [zP b0] := by
  unfold s_X0_trueCount_12
  refine z_astore_n (pc := 12) (lv' := [(3, zP b0)]) x dX0_trueCount_12 rfl (Nat.le_of_ble_eq_true rfl) rfl ?_
  refine z_iconst (pc := 13) x (v := (1 : Int32)) dX0_trueCount_13 rfl ?_
  exact z_iret (pc := 14) x hret dX0_trueCount_14
def s_X0_trueCount (E : zE) (a0 : Option Nat) (a1 : Int32) (a2 : Option Nat) : zM := zC (zRv a0 [(16, fun b => s_X1_trueCount E (some b) a1)]) (fun q => zCat1 q [(0, s_X0_trueCount_12 E (some q))]) (zKI (fun v4 => zSaL E 3 a2 (0 : Int32) ((v4).toInt64) (zRet (some (.int (0 : Int32))))))
theorem m_X0_trueCount {l : Launch} {E : zE} {D : va_G} {tA : Nat → ClassId} (hl : l.stackTraces = false) (a0 : Option Nat) (a1 : Int32) (a2 : Option Nat) : zMet l E D tA yX0_trueCount (wsW_ yX0_trueCount cX0_trueCount 4 (Option.some Jvm.ClassFile.FieldType.int) [(0, 9, 12, 13)]) 74 (s_X0_trueCount E a0 a1 a2) [zP a0, zI a1, zP a2] := by
  refine z_metW hl (by decide +kernel) (by rw [zSl_len]; exact (Nat.le_of_ble_eq_true rfl)) fun p e R s m args below meth c k0 x hret hnm htab => ?_
  refine z_lv [(0, zP a0), (1, zI a1), (2, zP a2)] rfl ?_
  unfold s_X0_trueCount
  refine z_aload_n (pc := 0) x 2 dX0_trueCount_0 rfl rfl ?_
  refine z_iconst (pc := 1) x (v := (0 : Int32)) dX0_trueCount_1 rfl ?_
  refine z_aload_n (pc := 2) x 0 dX0_trueCount_2 rfl rfl ?_
  refine z_iload_n (pc := 3) x 1 dX0_trueCount_3 rfl rfl ?_
  refine z_call (pc := 4) (z_canV (pc := 4) (As := [zI a1]) (st := [zI (0 : Int32), zP a2]) x (ci := 16) rfl (fun b => m_X1_trueCount hl (some b) a1) q1760 q1761 (x.2.2.2.2.1 _ q1762) q108 q1763 n_X1_trueCount ⟨by decide, by decide⟩ (Nat.le_of_ble_eq_true rfl) dX0_trueCount_4) (zv_I fun v4 => ?_) (fun q => zx_cat x [(0, s_X0_trueCount_12 E (some q), ⟨0, 9, 12, 13⟩)] htab (List.forall_mem_cons.mpr ⟨⟨rfl, (show (13 : Nat) ≠ 0 by decide), q1462, z_sub [] rfl (w_X0_trueCount_12 x hl hret hnm htab (some q))⟩, (fun _ hj => nomatch hj)⟩))
  refine z_i2l (pc := 7) x dX0_trueCount_7 ?_
  refine z_last (pc := 8) x (t := 3) rfl dX0_trueCount_8 ?_
  refine z_goto (pc := 9) (tgt := 15) x dX0_trueCount_9 rfl ?_
  refine z_iconst (pc := 15) x (v := (0 : Int32)) dX0_trueCount_15 rfl ?_
  exact z_iret (pc := 16) x hret dX0_trueCount_16
/-! X1_gainedWithout -/
def s_X1_gainedWithout (E : zE) (a0 : Option Nat) (a1 : Int32) (a2 : Int32) (a3 : Int32) : zM := zC (s_X1_requireCode E a1 a2 a3) zThr (zKI (fun v3 => zGetR a0 16 0 (fun v9 => zC (zRv v9 [(26, fun b => s_X2_without E (some b) a1 v3)]) zThr (zKR (fun v15 => zGetR a0 16 0 (fun v19 => zC (zRv v19 [(26, fun b => s_X2_facts E (some b))]) zThr (zKR (fun v22 => zC (zRv v15 [(32, fun b => s_X4_countWithout E (some b) v22)]) zThr (zKI (fun v25 => zRet (some (.int v25))))))))))))
theorem m_X1_gainedWithout {l : Launch} {E : zE} {D : va_G} {tA : Nat → ClassId} (hl : l.stackTraces = false) (a0 : Option Nat) (a1 : Int32) (a2 : Int32) (a3 : Int32) : zMet l E D tA yX1_gainedWithout (ws_ yX1_gainedWithout cX1_gainedWithout 5 (Option.some Jvm.ClassFile.FieldType.int)) 74 (s_X1_gainedWithout E a0 a1 a2 a3) [zP a0, zI a1, zI a2, zI a3] := by
  refine z_met hl (by decide +kernel) (by rw [zSl_len]; exact (Nat.le_of_ble_eq_true rfl)) fun p e R s m args below meth c k0 x hret hnm htab => ?_
  refine z_lv [(0, zP a0), (1, zI a1), (2, zI a2), (3, zI a3)] rfl ?_
  unfold s_X1_gainedWithout
  refine z_iload_n (pc := 0) x 1 dX1_gainedWithout_0 rfl rfl ?_
  refine z_iload_n (pc := 1) x 2 dX1_gainedWithout_1 rfl rfl ?_
  refine z_iload_n (pc := 2) x 3 dX1_gainedWithout_2 rfl rfl ?_
  refine z_call (pc := 3) (z_canS (pc := 3) (As := [zI a1, zI a2, zI a3]) (st := []) x (m_X1_requireCode hl a1 a2 a3) q1740 q1517 q108 q1518 n_X1_requireCode ⟨by decide, by decide⟩ (Nat.le_of_ble_eq_true rfl) dX1_gainedWithout_3) (zv_I fun v3 => ?_) (fun q => zx_thr x (fun z hz => (htab z hz).elim) q)
  refine z_istore (pc := 6) (lv' := [(4, zI v3), (0, zP a0), (1, zI a1), (2, zI a2), (3, zI a3)]) x dX1_gainedWithout_6 (Nat.le_of_ble_eq_true rfl) rfl ?_
  refine z_aload_n (pc := 8) x 1 dX1_gainedWithout_8 rfl rfl ?_
  refine z_get (pc := 9) (fun _ _ h => zAsR_eq h) x in_X1 (ci := 16) rfl (k := 0) (by decide) q320 (fun _ h => h) dX1_gainedWithout_9 fun v9 => ?_
  refine z_iload_n (pc := 12) x 2 dX1_gainedWithout_12 rfl rfl ?_
  refine z_iload (pc := 13) x 0 dX1_gainedWithout_13 rfl ?_
  refine z_call (pc := 15) (z_canV (pc := 15) (As := [zI a1, zI v3]) (st := []) x (ci := 26) rfl (fun b => m_X2_without hl (some b) a1 v3) q1772 q1652 (x.2.2.2.2.1 _ q1653) q109 q1654 n_X2_without ⟨by decide, by decide⟩ (Nat.le_of_ble_eq_true rfl) dX1_gainedWithout_15) (zv_R fun v15 => ?_) (fun q => zx_thr x (fun z hz => (htab z hz).elim) q)
  refine z_aload_n (pc := 18) x 1 dX1_gainedWithout_18 rfl rfl ?_
  refine z_get (pc := 19) (fun _ _ h => zAsR_eq h) x in_X1 (ci := 16) rfl (k := 0) (by decide) q320 (fun _ h => h) dX1_gainedWithout_19 fun v19 => ?_
  refine z_call (pc := 22) (z_canV (pc := 22) (As := []) (st := [zP v15]) x (ci := 26) rfl (fun b => m_X2_facts hl (some b)) q368 q369 (x.2.2.2.2.1 _ q370) q109 q371 n_X2_facts ⟨by decide, by decide⟩ (Nat.le_of_ble_eq_true rfl) dX1_gainedWithout_22) (zv_R fun v22 => ?_) (fun q => zx_thr x (fun z hz => (htab z hz).elim) q)
  refine z_call (pc := 25) (z_canV (pc := 25) (As := [zP v22]) (st := []) x (ci := 32) rfl (fun b => m_X4_countWithout hl (some b) v22) q1773 q986 (x.2.2.2.2.1 _ q987) q114 q988 n_X4_countWithout ⟨by decide, by decide⟩ (Nat.le_of_ble_eq_true rfl) dX1_gainedWithout_25) (zv_I fun v25 => ?_) (fun q => zx_thr x (fun z hz => (htab z hz).elim) q)
  exact z_iret (pc := 28) x hret dX1_gainedWithout_28
/-! X0_gainedWithout -/
def s_X0_gainedWithout_15 (E : zE) (b0 : Option Nat) : zM := zRet (some (.int (1 : Int32)))
theorem w_X0_gainedWithout_15 (x : zCx p l R s m args meth c E D tA cX0_gainedWithout 6 yX0_gainedWithout.cls 75) (hl : l.stackTraces = false) (hret : meth.sig.returnType = (Option.some Jvm.ClassFile.FieldType.int)) (hnm : meth.name = yX0_gainedWithout.name) (htab : c.exceptionTable.toList = tableOf [(0, 12, 15, 13), (0, 12, 19, 22)]) (b0 : Option Nat) : zW p l e R s m args below meth c E D tA 6 k0 (s_X0_gainedWithout_15 E b0) [] 15 [zP b0] := by
  unfold s_X0_gainedWithout_15
  refine z_astore (pc := 15) (lv' := [(5, zP b0)]) x dX0_gainedWithout_15 (Nat.le_of_ble_eq_true rfl) rfl ?_
  refine z_iconst (pc := 17) x (v := (1 : Int32)) dX0_gainedWithout_17 rfl ?_
  exact z_iret (pc := 18) x hret dX0_gainedWithout_18
def s_X0_gainedWithout_19 (E : zE) (b0 : Option Nat) : zM := zRet (some (.int (2 : Int32)))
theorem w_X0_gainedWithout_19 (x : zCx p l R s m args meth c E D tA cX0_gainedWithout 6 yX0_gainedWithout.cls 75) (hl : l.stackTraces = false) (hret : meth.sig.returnType = (Option.some Jvm.ClassFile.FieldType.int)) (hnm : meth.name = yX0_gainedWithout.name) (htab : c.exceptionTable.toList = tableOf [(0, 12, 15, 13), (0, 12, 19, 22)]) (b0 : Option Nat) : zW p l e R s m args below meth c E D tA 6 k0 (s_X0_gainedWithout_19 E b0) [] 19 [zP b0] := by
  unfold s_X0_gainedWithout_19
  refine z_astore (pc := 19) (lv' := [(5, zP b0)]) x dX0_gainedWithout_19 (Nat.le_of_ble_eq_true rfl) rfl ?_
  refine z_iconst (pc := 21) x (v := (2 : Int32)) dX0_gainedWithout_21 rfl ?_
  exact z_iret (pc := 22) x hret dX0_gainedWithout_22
def s_X0_gainedWithout (E : zE) (a0 : Option Nat) (a1 : Int32) (a2 : Int32) (a3 : Int32) (a4 : Option Nat) : zM := zC (zRv a0 [(16, fun b => s_X1_gainedWithout E (some b) a1 a2 a3)]) (fun q => zCat1 q [(0, s_X0_gainedWithout_15 E (some q)), (6, s_X0_gainedWithout_19 E (some q))]) (zKI (fun v7 => zSaL E 3 a4 (0 : Int32) ((v7).toInt64) (zRet (some (.int (0 : Int32))))))
theorem m_X0_gainedWithout {l : Launch} {E : zE} {D : va_G} {tA : Nat → ClassId} (hl : l.stackTraces = false) (a0 : Option Nat) (a1 : Int32) (a2 : Int32) (a3 : Int32) (a4 : Option Nat) : zMet l E D tA yX0_gainedWithout (wsW_ yX0_gainedWithout cX0_gainedWithout 6 (Option.some Jvm.ClassFile.FieldType.int) [(0, 12, 15, 13), (0, 12, 19, 22)]) 75 (s_X0_gainedWithout E a0 a1 a2 a3 a4) [zP a0, zI a1, zI a2, zI a3, zP a4] := by
  refine z_metW hl (by decide +kernel) (by rw [zSl_len]; exact (Nat.le_of_ble_eq_true rfl)) fun p e R s m args below meth c k0 x hret hnm htab => ?_
  refine z_lv [(0, zP a0), (1, zI a1), (2, zI a2), (3, zI a3), (4, zP a4)] rfl ?_
  unfold s_X0_gainedWithout
  refine z_aload (pc := 0) x 4 dX0_gainedWithout_0 rfl ?_
  refine z_iconst (pc := 2) x (v := (0 : Int32)) dX0_gainedWithout_2 rfl ?_
  refine z_aload_n (pc := 3) x 0 dX0_gainedWithout_3 rfl rfl ?_
  refine z_iload_n (pc := 4) x 1 dX0_gainedWithout_4 rfl rfl ?_
  refine z_iload_n (pc := 5) x 2 dX0_gainedWithout_5 rfl rfl ?_
  refine z_iload_n (pc := 6) x 3 dX0_gainedWithout_6 rfl rfl ?_
  refine z_call (pc := 7) (z_canV (pc := 7) (As := [zI a1, zI a2, zI a3]) (st := [zI (0 : Int32), zP a4]) x (ci := 16) rfl (fun b => m_X1_gainedWithout hl (some b) a1 a2 a3) q1768 q1769 (x.2.2.2.2.1 _ q1770) q108 q1771 n_X1_gainedWithout ⟨by decide, by decide⟩ (Nat.le_of_ble_eq_true rfl) dX0_gainedWithout_7) (zv_I fun v7 => ?_) (fun q => zx_cat x [(0, s_X0_gainedWithout_15 E (some q), ⟨0, 12, 15, 13⟩), (6, s_X0_gainedWithout_19 E (some q), ⟨0, 12, 19, 22⟩)] htab (List.forall_mem_cons.mpr ⟨⟨rfl, (show (13 : Nat) ≠ 0 by decide), q1462, z_sub [] rfl (w_X0_gainedWithout_15 x hl hret hnm htab (some q))⟩, (List.forall_mem_cons.mpr ⟨⟨rfl, (show (22 : Nat) ≠ 0 by decide), q1642, z_sub [] rfl (w_X0_gainedWithout_19 x hl hret hnm htab (some q))⟩, (fun _ hj => nomatch hj)⟩)⟩))
  refine z_i2l (pc := 10) x dX0_gainedWithout_10 ?_
  refine z_last (pc := 11) x (t := 3) rfl dX0_gainedWithout_11 ?_
  refine z_goto (pc := 12) (tgt := 23) x dX0_gainedWithout_12 rfl ?_
  refine z_iconst (pc := 23) x (v := (0 : Int32)) dX0_gainedWithout_23 rfl ?_
  exact z_iret (pc := 24) x hret dX0_gainedWithout_24
/-! X2_countFirst -/
def s_X2_countFirst_56 (E : zE) (k5 : Option Nat → Int32 → Int32 → Int32 → Int32 → zM) (a0 : Option Nat) (a1 : Int32) (a2 : Int32) (a4 : Int32) (b0 : Int32) (b1 : Int32) : zM := k5 a0 a1 a2 (b0 + b1) (a4 + (1 : Int32))
theorem w_X2_countFirst_56 (x : zCx p l R s m args meth c E D tA cX2_countFirst 6 yX2_countFirst.cls 73) (hl : l.stackTraces = false) (hret : meth.sig.returnType = (Option.some Jvm.ClassFile.FieldType.int)) (hnm : meth.name = yX2_countFirst.name) (htab : ∀ z ∈ c.exceptionTable.toList, False) {k5 : Option Nat → Int32 → Int32 → Int32 → Int32 → zM} (h5 : ∀ (a0 : Option Nat) (a1 : Int32) (a2 : Int32) (a3 : Int32) (a4 : Int32) , zW p l e R s m args below meth c E D tA 6 k0 (k5 a0 a1 a2 a3 a4) [(0, zP a0), (1, zI a1), (2, zI a2), (3, zI a3), (4, zI a4)] 5 []) (a0 : Option Nat) (a1 : Int32) (a2 : Int32) (a4 : Int32) (b0 : Int32) (b1 : Int32) : zW p l e R s m args below meth c E D tA 6 k0 (s_X2_countFirst_56 E k5 a0 a1 a2 a4 b0 b1) [(0, zP a0), (1, zI a1), (2, zI a2), (4, zI a4)] 56 [zI b1, zI b0] := by
  unfold s_X2_countFirst_56
  refine z_iadd (pc := 56) x dX2_countFirst_56 ?_
  refine z_istore_n (pc := 57) (lv' := [(3, zI (b0 + b1)), (0, zP a0), (1, zI a1), (2, zI a2), (4, zI a4)]) x dX2_countFirst_57 rfl (Nat.le_of_ble_eq_true rfl) rfl ?_
  refine z_iinc (pc := 58) (lv' := [(4, zI (a4 + (1 : Int32))), (3, zI (b0 + b1)), (0, zP a0), (1, zI a1), (2, zI a2)]) x (v2 := (a4 + (1 : Int32))) 4 dX2_countFirst_58 rfl rfl (Nat.le_of_ble_eq_true rfl) rfl ?_
  refine z_goto (pc := 61) (tgt := 5) x dX2_countFirst_61 rfl ?_
  exact z_sub [2, 3, 4, 1, 0] rfl (h5 a0 a1 a2 (b0 + b1) (a4 + (1 : Int32)))
def s_X2_countFirst_55 (E : zE) (k5 : Option Nat → Int32 → Int32 → Int32 → Int32 → zM) (a0 : Option Nat) (a1 : Int32) (a2 : Int32) (a4 : Int32) (b0 : Int32) : zM := s_X2_countFirst_56 E k5 a0 a1 a2 a4 b0 (0 : Int32)
theorem w_X2_countFirst_55 (x : zCx p l R s m args meth c E D tA cX2_countFirst 6 yX2_countFirst.cls 73) (hl : l.stackTraces = false) (hret : meth.sig.returnType = (Option.some Jvm.ClassFile.FieldType.int)) (hnm : meth.name = yX2_countFirst.name) (htab : ∀ z ∈ c.exceptionTable.toList, False) {k5 : Option Nat → Int32 → Int32 → Int32 → Int32 → zM} (h5 : ∀ (a0 : Option Nat) (a1 : Int32) (a2 : Int32) (a3 : Int32) (a4 : Int32) , zW p l e R s m args below meth c E D tA 6 k0 (k5 a0 a1 a2 a3 a4) [(0, zP a0), (1, zI a1), (2, zI a2), (3, zI a3), (4, zI a4)] 5 []) (a0 : Option Nat) (a1 : Int32) (a2 : Int32) (a4 : Int32) (b0 : Int32) : zW p l e R s m args below meth c E D tA 6 k0 (s_X2_countFirst_55 E k5 a0 a1 a2 a4 b0) [(0, zP a0), (1, zI a1), (2, zI a2), (4, zI a4)] 55 [zI b0] := by
  unfold s_X2_countFirst_55
  refine z_iconst (pc := 55) x (v := (0 : Int32)) dX2_countFirst_55 rfl ?_
  exact z_sub [0, 1, 2, 3] rfl (w_X2_countFirst_56 x hl hret hnm htab h5 a0 a1 a2 a4 b0 (0 : Int32))
def s_X2_countFirst_29 (E : zE) (k5 : Option Nat → Int32 → Int32 → Int32 → Int32 → zM) (a0 : Option Nat) (a1 : Int32) (a2 : Int32) (a3 : Int32) (a4 : Int32) (b0 : Int32) : zM := if b0 = a2 then (zC (zRv a0 [(26, fun b => s_X2_facts E (some b))]) zThr (zKR (fun v39 => zC (zRv v39 [(32, fun b => s_X4_has E (some b) a1 a4)]) zThr (zKI (fun v45 => if v45 = 0 then (s_X2_countFirst_55 E k5 a0 a1 a2 a4 a3) else (s_X2_countFirst_56 E k5 a0 a1 a2 a4 a3 (1 : Int32))))))) else (s_X2_countFirst_55 E k5 a0 a1 a2 a4 a3)
theorem w_X2_countFirst_29 (x : zCx p l R s m args meth c E D tA cX2_countFirst 6 yX2_countFirst.cls 73) (hl : l.stackTraces = false) (hret : meth.sig.returnType = (Option.some Jvm.ClassFile.FieldType.int)) (hnm : meth.name = yX2_countFirst.name) (htab : ∀ z ∈ c.exceptionTable.toList, False) {k5 : Option Nat → Int32 → Int32 → Int32 → Int32 → zM} (h5 : ∀ (a0 : Option Nat) (a1 : Int32) (a2 : Int32) (a3 : Int32) (a4 : Int32) , zW p l e R s m args below meth c E D tA 6 k0 (k5 a0 a1 a2 a3 a4) [(0, zP a0), (1, zI a1), (2, zI a2), (3, zI a3), (4, zI a4)] 5 []) (a0 : Option Nat) (a1 : Int32) (a2 : Int32) (a3 : Int32) (a4 : Int32) (b0 : Int32) : zW p l e R s m args below meth c E D tA 6 k0 (s_X2_countFirst_29 E k5 a0 a1 a2 a3 a4 b0) [(0, zP a0), (1, zI a1), (2, zI a2), (3, zI a3), (4, zI a4)] 29 [zI b0] := by
  unfold s_X2_countFirst_29
  refine z_istore (pc := 29) (lv' := [(5, zI b0), (0, zP a0), (1, zI a1), (2, zI a2), (3, zI a3), (4, zI a4)]) x dX2_countFirst_29 (Nat.le_of_ble_eq_true rfl) rfl ?_
  refine z_iload_n (pc := 31) x 4 dX2_countFirst_31 rfl rfl ?_
  refine z_iload (pc := 32) x 0 dX2_countFirst_32 rfl ?_
  refine z_iload_n (pc := 34) x 3 dX2_countFirst_34 rfl rfl ?_
  refine z_icmp_ne (pc := 35) (tgt := 55) x dX2_countFirst_35 rfl (fun _ => ?_) (fun _ => ?_)
  · refine z_aload_n (pc := 38) x 1 dX2_countFirst_38 rfl rfl ?_
    refine z_call (pc := 39) (z_canV (pc := 39) (As := []) (st := [zI a3]) x (ci := 26) rfl (fun b => m_X2_facts hl (some b)) q984 q369 (x.2.2.2.2.1 _ q370) q109 q371 n_X2_facts ⟨by decide, by decide⟩ (Nat.le_of_ble_eq_true rfl) dX2_countFirst_39) (zv_R fun v39 => ?_) (fun q => zx_thr x (fun z hz => (htab z hz).elim) q)
    refine z_iload_n (pc := 42) x 2 dX2_countFirst_42 rfl rfl ?_
    refine z_iload (pc := 43) x 5 dX2_countFirst_43 rfl ?_
    refine z_call (pc := 45) (z_canV (pc := 45) (As := [zI a1, zI a4]) (st := [zI a3]) x (ci := 32) rfl (fun b => m_X4_has hl (some b) a1 a4) q1212 q814 (x.2.2.2.2.1 _ q815) q114 q816 n_X4_has ⟨by decide, by decide⟩ (Nat.le_of_ble_eq_true rfl) dX2_countFirst_45) (zv_I fun v45 => ?_) (fun q => zx_thr x (fun z hz => (htab z hz).elim) q)
    refine z_if_eq (pc := 48) (tgt := 55) x dX2_countFirst_48 rfl (fun _ => ?_) (fun _ => ?_)
    · exact z_sub [1, 2, 3, 5] rfl (w_X2_countFirst_55 x hl hret hnm htab h5 a0 a1 a2 a4 a3)
    · refine z_iconst (pc := 51) x (v := (1 : Int32)) dX2_countFirst_51 rfl ?_
      refine z_goto (pc := 52) (tgt := 56) x dX2_countFirst_52 rfl ?_
      exact z_sub [1, 2, 3, 5] rfl (w_X2_countFirst_56 x hl hret hnm htab h5 a0 a1 a2 a4 a3 (1 : Int32))
  · exact z_sub [1, 2, 3, 5] rfl (w_X2_countFirst_55 x hl hret hnm htab h5 a0 a1 a2 a4 a3)
def s_X2_countFirst_5 (E : zE) : Nat → Option Nat → Int32 → Int32 → Int32 → Int32 → zM
  | 0, _, _, _, _, _ => zFail
  | n + 1, a0, a1, a2, a3, a4 => if (100 : Int32) ≤ a4 then (zRet (some (.int a3))) else (zC (s_X1_isPair E a1) zThr (zKI (fun v13 => if v13 = 0 then (s_X2_countFirst_29 E (s_X2_countFirst_5 E n) a0 a1 a2 a3 a4 a4) else (zDiv a4 (10 : Int32) (fun v23 => s_X2_countFirst_29 E (s_X2_countFirst_5 E n) a0 a1 a2 a3 a4 v23)))))
theorem w_X2_countFirst_5 (x : zCx p l R s m args meth c E D tA cX2_countFirst 6 yX2_countFirst.cls 73) (hl : l.stackTraces = false) (hret : meth.sig.returnType = (Option.some Jvm.ClassFile.FieldType.int)) (hnm : meth.name = yX2_countFirst.name) (htab : ∀ z ∈ c.exceptionTable.toList, False) : ∀ (n : Nat) (a0 : Option Nat) (a1 : Int32) (a2 : Int32) (a3 : Int32) (a4 : Int32), zW p l e R s m args below meth c E D tA 6 k0 (s_X2_countFirst_5 E n a0 a1 a2 a3 a4) [(0, zP a0), (1, zI a1), (2, zI a2), (3, zI a3), (4, zI a4)] 5 [] := by
  intro n
  induction n with
  | zero => intro a0 a1 a2 a3 a4; exact z_fail
  | succ n h5 =>
    intro a0 a1 a2 a3 a4
    rw [s_X2_countFirst_5]
    refine z_iload (pc := 5) x 4 dX2_countFirst_5 rfl ?_
    refine z_bipush (pc := 7) x (v := (100 : Int32)) dX2_countFirst_7 rfl ?_
    refine z_icmp_ge (pc := 9) (tgt := 64) x dX2_countFirst_9 rfl (fun _ => ?_) (fun _ => ?_)
    · refine z_iload_n (pc := 64) x 3 dX2_countFirst_64 rfl rfl ?_
      exact z_iret (pc := 65) x hret dX2_countFirst_65
    · refine z_iload_n (pc := 12) x 1 dX2_countFirst_12 rfl rfl ?_
      refine z_call (pc := 13) (z_canSN (pc := 13) (As := [zI a1]) (st := []) x (m_X1_isPair hl a1) q1789 q807 q108 q808 n_X1_isPair ⟨by decide, by decide⟩ (Nat.le_of_ble_eq_true rfl) dX2_countFirst_13) (zv_I fun v13 => ?_) (fun q => zx_thr x (fun z hz => (htab z hz).elim) q)
      refine z_if_eq (pc := 16) (tgt := 27) x dX2_countFirst_16 rfl (fun _ => ?_) (fun _ => ?_)
      · refine z_iload (pc := 27) x 4 dX2_countFirst_27 rfl ?_
        exact z_sub [0, 1, 2, 3, 4] rfl (w_X2_countFirst_29 x hl hret hnm htab h5 a0 a1 a2 a3 a4 a4)
      · refine z_iload (pc := 19) x 4 dX2_countFirst_19 rfl ?_
        refine z_bipush (pc := 21) x (v := (10 : Int32)) dX2_countFirst_21 rfl ?_
        refine z_idiv (pc := 23) x dX2_countFirst_23 fun v23 => ?_
        refine z_goto (pc := 24) (tgt := 29) x dX2_countFirst_24 rfl ?_
        exact z_sub [0, 1, 2, 3, 4] rfl (w_X2_countFirst_29 x hl hret hnm htab h5 a0 a1 a2 a3 a4 v23)
def s_X2_countFirst (E : zE) (a0 : Option Nat) (a1 : Int32) (a2 : Int32) : zM := s_X2_countFirst_5 E zN a0 a1 a2 (0 : Int32) (0 : Int32)
theorem m_X2_countFirst {l : Launch} {E : zE} {D : va_G} {tA : Nat → ClassId} (hl : l.stackTraces = false) (a0 : Option Nat) (a1 : Int32) (a2 : Int32) : zMet l E D tA yX2_countFirst (ws_ yX2_countFirst cX2_countFirst 6 (Option.some Jvm.ClassFile.FieldType.int)) 73 (s_X2_countFirst E a0 a1 a2) [zP a0, zI a1, zI a2] := by
  refine z_met hl (by decide +kernel) (by rw [zSl_len]; exact (Nat.le_of_ble_eq_true rfl)) fun p e R s m args below meth c k0 x hret hnm htab => ?_
  refine z_lv [(0, zP a0), (1, zI a1), (2, zI a2)] rfl ?_
  unfold s_X2_countFirst
  refine z_iconst (pc := 0) x (v := (0 : Int32)) dX2_countFirst_0 rfl ?_
  refine z_istore_n (pc := 1) (lv' := [(3, zI (0 : Int32)), (0, zP a0), (1, zI a1), (2, zI a2)]) x dX2_countFirst_1 rfl (Nat.le_of_ble_eq_true rfl) rfl ?_
  refine z_iconst (pc := 2) x (v := (0 : Int32)) dX2_countFirst_2 rfl ?_
  refine z_istore (pc := 3) (lv' := [(4, zI (0 : Int32)), (3, zI (0 : Int32)), (0, zP a0), (1, zI a1), (2, zI a2)]) x dX2_countFirst_3 (Nat.le_of_ble_eq_true rfl) rfl ?_
  exact z_sub [2, 3, 4, 1, 0] rfl (w_X2_countFirst_5 x hl hret hnm htab zN a0 a1 a2 (0 : Int32) (0 : Int32))
/-! X2_constantAtRank -/
def s_X2_constantAtRank_92 (E : zE) (k5 : Option Nat → Int32 → Int32 → Int32 → Int32 → zM) (a0 : Option Nat) (a1 : Int32) (a2 : Int32) (a4 : Int32) (b0 : Int32) : zM := k5 a0 a1 a2 b0 (a4 + (1 : Int32))
theorem w_X2_constantAtRank_92 (x : zCx p l R s m args meth c E D tA cX2_constantAtRank 9 yX2_constantAtRank.cls 74) (hl : l.stackTraces = false) (hret : meth.sig.returnType = (Option.some Jvm.ClassFile.FieldType.int)) (hnm : meth.name = yX2_constantAtRank.name) (htab : ∀ z ∈ c.exceptionTable.toList, False) {k5 : Option Nat → Int32 → Int32 → Int32 → Int32 → zM} (h5 : ∀ (a0 : Option Nat) (a1 : Int32) (a2 : Int32) (a3 : Int32) (a4 : Int32) , zW p l e R s m args below meth c E D tA 9 k0 (k5 a0 a1 a2 a3 a4) [(0, zP a0), (1, zI a1), (2, zI a2), (3, zI a3), (4, zI a4)] 5 []) (a0 : Option Nat) (a1 : Int32) (a2 : Int32) (a4 : Int32) (b0 : Int32) : zW p l e R s m args below meth c E D tA 9 k0 (s_X2_constantAtRank_92 E k5 a0 a1 a2 a4 b0) [(0, zP a0), (1, zI a1), (2, zI a2), (4, zI a4)] 92 [zI b0] := by
  unfold s_X2_constantAtRank_92
  refine z_istore_n (pc := 92) (lv' := [(3, zI b0), (0, zP a0), (1, zI a1), (2, zI a2), (4, zI a4)]) x dX2_constantAtRank_92 rfl (Nat.le_of_ble_eq_true rfl) rfl ?_
  refine z_iinc (pc := 93) (lv' := [(4, zI (a4 + (1 : Int32))), (3, zI b0), (0, zP a0), (1, zI a1), (2, zI a2)]) x (v2 := (a4 + (1 : Int32))) 4 dX2_constantAtRank_93 rfl rfl (Nat.le_of_ble_eq_true rfl) rfl ?_
  refine z_goto (pc := 96) (tgt := 5) x dX2_constantAtRank_96 rfl ?_
  exact z_sub [2, 3, 4, 1, 0] rfl (h5 a0 a1 a2 b0 (a4 + (1 : Int32)))
def s_X2_constantAtRank_71 (E : zE) (k5 : Option Nat → Int32 → Int32 → Int32 → Int32 → zM) (k27 : Option Nat → Int32 → Int32 → Int32 → Int32 → Int32 → Int32 → Int32 → zM) (a0 : Option Nat) (a1 : Int32) (a2 : Int32) (a3 : Int32) (a4 : Int32) (a5 : Int32) (a7 : Int32) (b0 : Int32) (b1 : Int32) : zM := k27 a0 a1 a2 a3 a4 a5 (b0 + b1) (a7 + (1 : Int32))
theorem w_X2_constantAtRank_71 (x : zCx p l R s m args meth c E D tA cX2_constantAtRank 9 yX2_constantAtRank.cls 74) (hl : l.stackTraces = false) (hret : meth.sig.returnType = (Option.some Jvm.ClassFile.FieldType.int)) (hnm : meth.name = yX2_constantAtRank.name) (htab : ∀ z ∈ c.exceptionTable.toList, False) {k5 : Option Nat → Int32 → Int32 → Int32 → Int32 → zM} (h5 : ∀ (a0 : Option Nat) (a1 : Int32) (a2 : Int32) (a3 : Int32) (a4 : Int32) , zW p l e R s m args below meth c E D tA 9 k0 (k5 a0 a1 a2 a3 a4) [(0, zP a0), (1, zI a1), (2, zI a2), (3, zI a3), (4, zI a4)] 5 []) {k27 : Option Nat → Int32 → Int32 → Int32 → Int32 → Int32 → Int32 → Int32 → zM} (h27 : ∀ (a0 : Option Nat) (a1 : Int32) (a2 : Int32) (a3 : Int32) (a4 : Int32) (a5 : Int32) (a6 : Int32) (a7 : Int32) , zW p l e R s m args below meth c E D tA 9 k0 (k27 a0 a1 a2 a3 a4 a5 a6 a7) [(0, zP a0), (1, zI a1), (2, zI a2), (3, zI a3), (4, zI a4), (5, zI a5), (6, zI a6), (7, zI a7)] 27 []) (a0 : Option Nat) (a1 : Int32) (a2 : Int32) (a3 : Int32) (a4 : Int32) (a5 : Int32) (a7 : Int32) (b0 : Int32) (b1 : Int32) : zW p l e R s m args below meth c E D tA 9 k0 (s_X2_constantAtRank_71 E k5 k27 a0 a1 a2 a3 a4 a5 a7 b0 b1) [(0, zP a0), (1, zI a1), (2, zI a2), (3, zI a3), (4, zI a4), (5, zI a5), (7, zI a7)] 71 [zI b1, zI b0] := by
  unfold s_X2_constantAtRank_71
  refine z_iadd (pc := 71) x dX2_constantAtRank_71 ?_
  refine z_istore (pc := 72) (lv' := [(6, zI (b0 + b1)), (0, zP a0), (1, zI a1), (2, zI a2), (3, zI a3), (4, zI a4), (5, zI a5), (7, zI a7)]) x dX2_constantAtRank_72 (Nat.le_of_ble_eq_true rfl) rfl ?_
  refine z_iinc (pc := 74) (lv' := [(7, zI (a7 + (1 : Int32))), (6, zI (b0 + b1)), (0, zP a0), (1, zI a1), (2, zI a2), (3, zI a3), (4, zI a4), (5, zI a5)]) x (v2 := (a7 + (1 : Int32))) 7 dX2_constantAtRank_74 rfl rfl (Nat.le_of_ble_eq_true rfl) rfl ?_
  refine z_goto (pc := 77) (tgt := 27) x dX2_constantAtRank_77 rfl ?_
  exact z_sub [2, 3, 4, 5, 6, 7, 1, 0] rfl (h27 a0 a1 a2 a3 a4 a5 (b0 + b1) (a7 + (1 : Int32)))
def s_X2_constantAtRank_66 (E : zE) (k5 : Option Nat → Int32 → Int32 → Int32 → Int32 → zM) (k27 : Option Nat → Int32 → Int32 → Int32 → Int32 → Int32 → Int32 → Int32 → zM) (a0 : Option Nat) (a1 : Int32) (a2 : Int32) (a3 : Int32) (a4 : Int32) (a5 : Int32) (a7 : Int32) (b0 : Int32) : zM := s_X2_constantAtRank_71 E k5 k27 a0 a1 a2 a3 a4 a5 a7 b0 (1 : Int32)
theorem w_X2_constantAtRank_66 (x : zCx p l R s m args meth c E D tA cX2_constantAtRank 9 yX2_constantAtRank.cls 74) (hl : l.stackTraces = false) (hret : meth.sig.returnType = (Option.some Jvm.ClassFile.FieldType.int)) (hnm : meth.name = yX2_constantAtRank.name) (htab : ∀ z ∈ c.exceptionTable.toList, False) {k5 : Option Nat → Int32 → Int32 → Int32 → Int32 → zM} (h5 : ∀ (a0 : Option Nat) (a1 : Int32) (a2 : Int32) (a3 : Int32) (a4 : Int32) , zW p l e R s m args below meth c E D tA 9 k0 (k5 a0 a1 a2 a3 a4) [(0, zP a0), (1, zI a1), (2, zI a2), (3, zI a3), (4, zI a4)] 5 []) {k27 : Option Nat → Int32 → Int32 → Int32 → Int32 → Int32 → Int32 → Int32 → zM} (h27 : ∀ (a0 : Option Nat) (a1 : Int32) (a2 : Int32) (a3 : Int32) (a4 : Int32) (a5 : Int32) (a6 : Int32) (a7 : Int32) , zW p l e R s m args below meth c E D tA 9 k0 (k27 a0 a1 a2 a3 a4 a5 a6 a7) [(0, zP a0), (1, zI a1), (2, zI a2), (3, zI a3), (4, zI a4), (5, zI a5), (6, zI a6), (7, zI a7)] 27 []) (a0 : Option Nat) (a1 : Int32) (a2 : Int32) (a3 : Int32) (a4 : Int32) (a5 : Int32) (a7 : Int32) (b0 : Int32) : zW p l e R s m args below meth c E D tA 9 k0 (s_X2_constantAtRank_66 E k5 k27 a0 a1 a2 a3 a4 a5 a7 b0) [(0, zP a0), (1, zI a1), (2, zI a2), (3, zI a3), (4, zI a4), (5, zI a5), (7, zI a7)] 66 [zI b0] := by
  unfold s_X2_constantAtRank_66
  refine z_iconst (pc := 66) x (v := (1 : Int32)) dX2_constantAtRank_66 rfl ?_
  refine z_goto (pc := 67) (tgt := 71) x dX2_constantAtRank_67 rfl ?_
  exact z_sub [0, 1, 2, 3, 4, 5, 6] rfl (w_X2_constantAtRank_71 x hl hret hnm htab h5 h27 a0 a1 a2 a3 a4 a5 a7 b0 (1 : Int32))
def s_X2_constantAtRank_70 (E : zE) (k5 : Option Nat → Int32 → Int32 → Int32 → Int32 → zM) (k27 : Option Nat → Int32 → Int32 → Int32 → Int32 → Int32 → Int32 → Int32 → zM) (a0 : Option Nat) (a1 : Int32) (a2 : Int32) (a3 : Int32) (a4 : Int32) (a5 : Int32) (a7 : Int32) (b0 : Int32) : zM := s_X2_constantAtRank_71 E k5 k27 a0 a1 a2 a3 a4 a5 a7 b0 (0 : Int32)
theorem w_X2_constantAtRank_70 (x : zCx p l R s m args meth c E D tA cX2_constantAtRank 9 yX2_constantAtRank.cls 74) (hl : l.stackTraces = false) (hret : meth.sig.returnType = (Option.some Jvm.ClassFile.FieldType.int)) (hnm : meth.name = yX2_constantAtRank.name) (htab : ∀ z ∈ c.exceptionTable.toList, False) {k5 : Option Nat → Int32 → Int32 → Int32 → Int32 → zM} (h5 : ∀ (a0 : Option Nat) (a1 : Int32) (a2 : Int32) (a3 : Int32) (a4 : Int32) , zW p l e R s m args below meth c E D tA 9 k0 (k5 a0 a1 a2 a3 a4) [(0, zP a0), (1, zI a1), (2, zI a2), (3, zI a3), (4, zI a4)] 5 []) {k27 : Option Nat → Int32 → Int32 → Int32 → Int32 → Int32 → Int32 → Int32 → zM} (h27 : ∀ (a0 : Option Nat) (a1 : Int32) (a2 : Int32) (a3 : Int32) (a4 : Int32) (a5 : Int32) (a6 : Int32) (a7 : Int32) , zW p l e R s m args below meth c E D tA 9 k0 (k27 a0 a1 a2 a3 a4 a5 a6 a7) [(0, zP a0), (1, zI a1), (2, zI a2), (3, zI a3), (4, zI a4), (5, zI a5), (6, zI a6), (7, zI a7)] 27 []) (a0 : Option Nat) (a1 : Int32) (a2 : Int32) (a3 : Int32) (a4 : Int32) (a5 : Int32) (a7 : Int32) (b0 : Int32) : zW p l e R s m args below meth c E D tA 9 k0 (s_X2_constantAtRank_70 E k5 k27 a0 a1 a2 a3 a4 a5 a7 b0) [(0, zP a0), (1, zI a1), (2, zI a2), (3, zI a3), (4, zI a4), (5, zI a5), (7, zI a7)] 70 [zI b0] := by
  unfold s_X2_constantAtRank_70
  refine z_iconst (pc := 70) x (v := (0 : Int32)) dX2_constantAtRank_70 rfl ?_
  exact z_sub [0, 1, 2, 3, 4, 5, 6] rfl (w_X2_constantAtRank_71 x hl hret hnm htab h5 h27 a0 a1 a2 a3 a4 a5 a7 b0 (0 : Int32))
def s_X2_constantAtRank_27 (E : zE) (k5 : Option Nat → Int32 → Int32 → Int32 → Int32 → zM) : Nat → Option Nat → Int32 → Int32 → Int32 → Int32 → Int32 → Int32 → Int32 → zM
  | 0, _, _, _, _, _, _, _, _ => zFail
  | n + 1, a0, a1, a2, a3, a4, a5, a6, a7 => if (10 : Int32) ≤ a7 then (if a6 = a2 then (s_X2_constantAtRank_92 E k5 a0 a1 a2 a4 a4) else (s_X2_constantAtRank_92 E k5 a0 a1 a2 a4 a3)) else (zC (zRv a0 [(26, fun b => s_X2_countFirst E (some b) a1 a7)]) zThr (zKI (fun v38 => if a5 < v38 then (s_X2_constantAtRank_66 E k5 (s_X2_constantAtRank_27 E k5 n) a0 a1 a2 a3 a4 a5 a7 a6) else (if v38 = a5 then (if a4 ≤ a7 then (s_X2_constantAtRank_70 E k5 (s_X2_constantAtRank_27 E k5 n) a0 a1 a2 a3 a4 a5 a7 a6) else (s_X2_constantAtRank_66 E k5 (s_X2_constantAtRank_27 E k5 n) a0 a1 a2 a3 a4 a5 a7 a6)) else (s_X2_constantAtRank_70 E k5 (s_X2_constantAtRank_27 E k5 n) a0 a1 a2 a3 a4 a5 a7 a6)))))
theorem w_X2_constantAtRank_27 (x : zCx p l R s m args meth c E D tA cX2_constantAtRank 9 yX2_constantAtRank.cls 74) (hl : l.stackTraces = false) (hret : meth.sig.returnType = (Option.some Jvm.ClassFile.FieldType.int)) (hnm : meth.name = yX2_constantAtRank.name) (htab : ∀ z ∈ c.exceptionTable.toList, False) {k5 : Option Nat → Int32 → Int32 → Int32 → Int32 → zM} (h5 : ∀ (a0 : Option Nat) (a1 : Int32) (a2 : Int32) (a3 : Int32) (a4 : Int32) , zW p l e R s m args below meth c E D tA 9 k0 (k5 a0 a1 a2 a3 a4) [(0, zP a0), (1, zI a1), (2, zI a2), (3, zI a3), (4, zI a4)] 5 []) : ∀ (n : Nat) (a0 : Option Nat) (a1 : Int32) (a2 : Int32) (a3 : Int32) (a4 : Int32) (a5 : Int32) (a6 : Int32) (a7 : Int32), zW p l e R s m args below meth c E D tA 9 k0 (s_X2_constantAtRank_27 E k5 n a0 a1 a2 a3 a4 a5 a6 a7) [(0, zP a0), (1, zI a1), (2, zI a2), (3, zI a3), (4, zI a4), (5, zI a5), (6, zI a6), (7, zI a7)] 27 [] := by
  intro n
  induction n with
  | zero => intro a0 a1 a2 a3 a4 a5 a6 a7; exact z_fail
  | succ n h27 =>
    intro a0 a1 a2 a3 a4 a5 a6 a7
    rw [s_X2_constantAtRank_27]
    refine z_iload (pc := 27) x 7 dX2_constantAtRank_27 rfl ?_
    refine z_bipush (pc := 29) x (v := (10 : Int32)) dX2_constantAtRank_29 rfl ?_
    refine z_icmp_ge (pc := 31) (tgt := 80) x dX2_constantAtRank_31 rfl (fun _ => ?_) (fun _ => ?_)
    · refine z_iload (pc := 80) x 6 dX2_constantAtRank_80 rfl ?_
      refine z_iload_n (pc := 82) x 2 dX2_constantAtRank_82 rfl rfl ?_
      refine z_icmp_ne (pc := 83) (tgt := 91) x dX2_constantAtRank_83 rfl (fun _ => ?_) (fun _ => ?_)
      · refine z_iload (pc := 86) x 4 dX2_constantAtRank_86 rfl ?_
        refine z_goto (pc := 88) (tgt := 92) x dX2_constantAtRank_88 rfl ?_
        exact z_sub [0, 1, 2, 4] rfl (w_X2_constantAtRank_92 x hl hret hnm htab h5 a0 a1 a2 a4 a4)
      · refine z_iload_n (pc := 91) x 3 dX2_constantAtRank_91 rfl rfl ?_
        exact z_sub [0, 1, 2, 4] rfl (w_X2_constantAtRank_92 x hl hret hnm htab h5 a0 a1 a2 a4 a3)
    · refine z_aload_n (pc := 34) x 0 dX2_constantAtRank_34 rfl rfl ?_
      refine z_iload_n (pc := 35) x 1 dX2_constantAtRank_35 rfl rfl ?_
      refine z_iload (pc := 36) x 7 dX2_constantAtRank_36 rfl ?_
      refine z_call (pc := 38) (z_canV (pc := 38) (As := [zI a1, zI a7]) (st := []) x (ci := 26) rfl (fun b => m_X2_countFirst hl (some b) a1 a7) q1785 q1787 (z_selP x (ci := 26) rfl (by decide) (zNi_inst x q176) q1786 q1787) q109 q1788 n_X2_countFirst ⟨by decide, by decide⟩ (Nat.le_of_ble_eq_true rfl) dX2_constantAtRank_38) (zv_I fun v38 => ?_) (fun q => zx_thr x (fun z hz => (htab z hz).elim) q)
      refine z_istore (pc := 41) (lv' := [(8, zI v38), (0, zP a0), (1, zI a1), (2, zI a2), (3, zI a3), (4, zI a4), (5, zI a5), (6, zI a6), (7, zI a7)]) x dX2_constantAtRank_41 (Nat.le_of_ble_eq_true rfl) rfl ?_
      refine z_iload (pc := 43) x 7 dX2_constantAtRank_43 rfl ?_
      refine z_iload (pc := 45) x 0 dX2_constantAtRank_45 rfl ?_
      refine z_iload (pc := 47) x 6 dX2_constantAtRank_47 rfl ?_
      refine z_icmp_gt (pc := 49) (tgt := 66) x dX2_constantAtRank_49 rfl (fun _ => ?_) (fun _ => ?_)
      · exact z_sub [1, 2, 3, 4, 5, 6, 8] rfl (w_X2_constantAtRank_66 x hl hret hnm htab h5 h27 a0 a1 a2 a3 a4 a5 a7 a6)
      · refine z_iload (pc := 52) x 0 dX2_constantAtRank_52 rfl ?_
        refine z_iload (pc := 54) x 6 dX2_constantAtRank_54 rfl ?_
        refine z_icmp_ne (pc := 56) (tgt := 70) x dX2_constantAtRank_56 rfl (fun _ => ?_) (fun _ => ?_)
        · refine z_iload (pc := 59) x 8 dX2_constantAtRank_59 rfl ?_
          refine z_iload (pc := 61) x 5 dX2_constantAtRank_61 rfl ?_
          refine z_icmp_ge (pc := 63) (tgt := 70) x dX2_constantAtRank_63 rfl (fun _ => ?_) (fun _ => ?_)
          · exact z_sub [1, 2, 3, 4, 5, 6, 8] rfl (w_X2_constantAtRank_70 x hl hret hnm htab h5 h27 a0 a1 a2 a3 a4 a5 a7 a6)
          · exact z_sub [1, 2, 3, 4, 5, 6, 8] rfl (w_X2_constantAtRank_66 x hl hret hnm htab h5 h27 a0 a1 a2 a3 a4 a5 a7 a6)
        · exact z_sub [1, 2, 3, 4, 5, 6, 8] rfl (w_X2_constantAtRank_70 x hl hret hnm htab h5 h27 a0 a1 a2 a3 a4 a5 a7 a6)
def s_X2_constantAtRank_5 (E : zE) : Nat → Option Nat → Int32 → Int32 → Int32 → Int32 → zM
  | 0, _, _, _, _, _ => zFail
  | n + 1, a0, a1, a2, a3, a4 => if (10 : Int32) ≤ a4 then (zRet (some (.int a3))) else (zC (zRv a0 [(26, fun b => s_X2_countFirst E (some b) a1 a4)]) zThr (zKI (fun v16 => s_X2_constantAtRank_27 E (s_X2_constantAtRank_5 E n) zN a0 a1 a2 a3 a4 v16 (0 : Int32) (0 : Int32))))
theorem w_X2_constantAtRank_5 (x : zCx p l R s m args meth c E D tA cX2_constantAtRank 9 yX2_constantAtRank.cls 74) (hl : l.stackTraces = false) (hret : meth.sig.returnType = (Option.some Jvm.ClassFile.FieldType.int)) (hnm : meth.name = yX2_constantAtRank.name) (htab : ∀ z ∈ c.exceptionTable.toList, False) : ∀ (n : Nat) (a0 : Option Nat) (a1 : Int32) (a2 : Int32) (a3 : Int32) (a4 : Int32), zW p l e R s m args below meth c E D tA 9 k0 (s_X2_constantAtRank_5 E n a0 a1 a2 a3 a4) [(0, zP a0), (1, zI a1), (2, zI a2), (3, zI a3), (4, zI a4)] 5 [] := by
  intro n
  induction n with
  | zero => intro a0 a1 a2 a3 a4; exact z_fail
  | succ n h5 =>
    intro a0 a1 a2 a3 a4
    rw [s_X2_constantAtRank_5]
    refine z_iload (pc := 5) x 4 dX2_constantAtRank_5 rfl ?_
    refine z_bipush (pc := 7) x (v := (10 : Int32)) dX2_constantAtRank_7 rfl ?_
    refine z_icmp_ge (pc := 9) (tgt := 99) x dX2_constantAtRank_9 rfl (fun _ => ?_) (fun _ => ?_)
    · refine z_iload_n (pc := 99) x 3 dX2_constantAtRank_99 rfl rfl ?_
      exact z_iret (pc := 100) x hret dX2_constantAtRank_100
    · refine z_aload_n (pc := 12) x 0 dX2_constantAtRank_12 rfl rfl ?_
      refine z_iload_n (pc := 13) x 1 dX2_constantAtRank_13 rfl rfl ?_
      refine z_iload (pc := 14) x 4 dX2_constantAtRank_14 rfl ?_
      refine z_call (pc := 16) (z_canV (pc := 16) (As := [zI a1, zI a4]) (st := []) x (ci := 26) rfl (fun b => m_X2_countFirst hl (some b) a1 a4) q1785 q1787 (z_selP x (ci := 26) rfl (by decide) (zNi_inst x q176) q1786 q1787) q109 q1788 n_X2_countFirst ⟨by decide, by decide⟩ (Nat.le_of_ble_eq_true rfl) dX2_constantAtRank_16) (zv_I fun v16 => ?_) (fun q => zx_thr x (fun z hz => (htab z hz).elim) q)
      refine z_istore (pc := 19) (lv' := [(5, zI v16), (0, zP a0), (1, zI a1), (2, zI a2), (3, zI a3), (4, zI a4)]) x dX2_constantAtRank_19 (Nat.le_of_ble_eq_true rfl) rfl ?_
      refine z_iconst (pc := 21) x (v := (0 : Int32)) dX2_constantAtRank_21 rfl ?_
      refine z_istore (pc := 22) (lv' := [(6, zI (0 : Int32)), (5, zI v16), (0, zP a0), (1, zI a1), (2, zI a2), (3, zI a3), (4, zI a4)]) x dX2_constantAtRank_22 (Nat.le_of_ble_eq_true rfl) rfl ?_
      refine z_iconst (pc := 24) x (v := (0 : Int32)) dX2_constantAtRank_24 rfl ?_
      refine z_istore (pc := 25) (lv' := [(7, zI (0 : Int32)), (6, zI (0 : Int32)), (5, zI v16), (0, zP a0), (1, zI a1), (2, zI a2), (3, zI a3), (4, zI a4)]) x dX2_constantAtRank_25 (Nat.le_of_ble_eq_true rfl) rfl ?_
      exact z_sub [3, 4, 5, 6, 7, 2, 1, 0] rfl (w_X2_constantAtRank_27 x hl hret hnm htab h5 zN a0 a1 a2 a3 a4 v16 (0 : Int32) (0 : Int32))
def s_X2_constantAtRank (E : zE) (a0 : Option Nat) (a1 : Int32) (a2 : Int32) : zM := s_X2_constantAtRank_5 E zN a0 a1 a2 (-1 : Int32) (0 : Int32)
theorem m_X2_constantAtRank {l : Launch} {E : zE} {D : va_G} {tA : Nat → ClassId} (hl : l.stackTraces = false) (a0 : Option Nat) (a1 : Int32) (a2 : Int32) : zMet l E D tA yX2_constantAtRank (ws_ yX2_constantAtRank cX2_constantAtRank 9 (Option.some Jvm.ClassFile.FieldType.int)) 74 (s_X2_constantAtRank E a0 a1 a2) [zP a0, zI a1, zI a2] := by
  refine z_met hl (by decide +kernel) (by rw [zSl_len]; exact (Nat.le_of_ble_eq_true rfl)) fun p e R s m args below meth c k0 x hret hnm htab => ?_
  refine z_lv [(0, zP a0), (1, zI a1), (2, zI a2)] rfl ?_
  unfold s_X2_constantAtRank
  refine z_iconst (pc := 0) x (v := (-1 : Int32)) dX2_constantAtRank_0 rfl ?_
  refine z_istore_n (pc := 1) (lv' := [(3, zI (-1 : Int32)), (0, zP a0), (1, zI a1), (2, zI a2)]) x dX2_constantAtRank_1 rfl (Nat.le_of_ble_eq_true rfl) rfl ?_
  refine z_iconst (pc := 2) x (v := (0 : Int32)) dX2_constantAtRank_2 rfl ?_
  refine z_istore (pc := 3) (lv' := [(4, zI (0 : Int32)), (3, zI (-1 : Int32)), (0, zP a0), (1, zI a1), (2, zI a2)]) x dX2_constantAtRank_3 (Nat.le_of_ble_eq_true rfl) rfl ?_
  exact z_sub [2, 3, 4, 1, 0] rfl (w_X2_constantAtRank_5 x hl hret hnm htab zN a0 a1 a2 (-1 : Int32) (0 : Int32))
/-! X1_requireFound -/
def s_X1_requireFound_10 (E : zE) (a0 : Int32) (b0 : Int32) : zM := zC (s_X1_requireElement E b0) zThr (zKV (zRet (some (.int a0))))
theorem w_X1_requireFound_10 (x : zCx p l R s m args meth c E D tA cX1_requireFound 1 yX1_requireFound.cls 10) (hl : l.stackTraces = false) (hret : meth.sig.returnType = (Option.some Jvm.ClassFile.FieldType.int)) (hnm : meth.name = yX1_requireFound.name) (htab : ∀ z ∈ c.exceptionTable.toList, False) (a0 : Int32) (b0 : Int32) : zW p l e R s m args below meth c E D tA 1 k0 (s_X1_requireFound_10 E a0 b0) [(0, zI a0)] 10 [zI b0] := by
  unfold s_X1_requireFound_10
  refine z_call (pc := 10) (z_canS (pc := 10) (As := [zI b0]) (st := []) x (m_X1_requireElement hl b0) q1793 q1656 q108 q1657 n_X1_requireElement ⟨by decide, by decide⟩ (Nat.le_of_ble_eq_true rfl) dX1_requireFound_10) (zv_V ?_) (fun q => zx_thr x (fun z hz => (htab z hz).elim) q)
  refine z_iload_n (pc := 13) x 0 dX1_requireFound_13 rfl rfl ?_
  exact z_iret (pc := 14) x hret dX1_requireFound_14
def s_X1_requireFound (E : zE) (a0 : Int32) : zM := if a0 = (-1 : Int32) then (s_X1_requireFound_10 E a0 (0 : Int32)) else (s_X1_requireFound_10 E a0 (1 : Int32))
theorem m_X1_requireFound {l : Launch} {E : zE} {D : va_G} {tA : Nat → ClassId} (hl : l.stackTraces = false) (a0 : Int32) : zMet l E D tA yX1_requireFound (ws_ yX1_requireFound cX1_requireFound 1 (Option.some Jvm.ClassFile.FieldType.int)) 10 (s_X1_requireFound E a0) [zI a0] := by
  refine z_met hl (by decide +kernel) (by rw [zSl_len]; exact (Nat.le_of_ble_eq_true rfl)) fun p e R s m args below meth c k0 x hret hnm htab => ?_
  refine z_lv [(0, zI a0)] rfl ?_
  unfold s_X1_requireFound
  refine z_iload_n (pc := 0) x 0 dX1_requireFound_0 rfl rfl ?_
  refine z_iconst (pc := 1) x (v := (-1 : Int32)) dX1_requireFound_1 rfl ?_
  refine z_icmp_eq (pc := 2) (tgt := 9) x dX1_requireFound_2 rfl (fun _ => ?_) (fun _ => ?_)
  · refine z_iconst (pc := 9) x (v := (0 : Int32)) dX1_requireFound_9 rfl ?_
    exact z_sub [0] rfl (w_X1_requireFound_10 x hl hret hnm htab a0 (0 : Int32))
  · refine z_iconst (pc := 5) x (v := (1 : Int32)) dX1_requireFound_5 rfl ?_
    refine z_goto (pc := 6) (tgt := 10) x dX1_requireFound_6 rfl ?_
    exact z_sub [0] rfl (w_X1_requireFound_10 x hl hret hnm htab a0 (1 : Int32))
/-! X1_constantAtRank -/
def s_X1_constantAtRank (E : zE) (a0 : Option Nat) (a1 : Int32) (a2 : Int32) : zM := zC (s_X1_requirePredicate E a1) zThr (zKI (fun v1 => zGetR a0 16 0 (fun v6 => zC (zRv v6 [(26, fun b => s_X2_constantAtRank E (some b) v1 a2)]) zThr (zKI (fun v11 => zC (s_X1_requireFound E v11) zThr (zKI (fun v14 => zRet (some (.int v14)))))))))
theorem m_X1_constantAtRank {l : Launch} {E : zE} {D : va_G} {tA : Nat → ClassId} (hl : l.stackTraces = false) (a0 : Option Nat) (a1 : Int32) (a2 : Int32) : zMet l E D tA yX1_constantAtRank (ws_ yX1_constantAtRank cX1_constantAtRank 4 (Option.some Jvm.ClassFile.FieldType.int)) 75 (s_X1_constantAtRank E a0 a1 a2) [zP a0, zI a1, zI a2] := by
  refine z_met hl (by decide +kernel) (by rw [zSl_len]; exact (Nat.le_of_ble_eq_true rfl)) fun p e R s m args below meth c k0 x hret hnm htab => ?_
  refine z_lv [(0, zP a0), (1, zI a1), (2, zI a2)] rfl ?_
  unfold s_X1_constantAtRank
  refine z_iload_n (pc := 0) x 1 dX1_constantAtRank_0 rfl rfl ?_
  refine z_call (pc := 1) (z_canS (pc := 1) (As := [zI a1]) (st := []) x (m_X1_requirePredicate hl a1) q1519 q1520 q108 q1521 n_X1_requirePredicate ⟨by decide, by decide⟩ (Nat.le_of_ble_eq_true rfl) dX1_constantAtRank_1) (zv_I fun v1 => ?_) (fun q => zx_thr x (fun z hz => (htab z hz).elim) q)
  refine z_istore_n (pc := 4) (lv' := [(3, zI v1), (0, zP a0), (1, zI a1), (2, zI a2)]) x dX1_constantAtRank_4 rfl (Nat.le_of_ble_eq_true rfl) rfl ?_
  refine z_aload_n (pc := 5) x 1 dX1_constantAtRank_5 rfl rfl ?_
  refine z_get (pc := 6) (fun _ _ h => zAsR_eq h) x in_X1 (ci := 16) rfl (k := 0) (by decide) q320 (fun _ h => h) dX1_constantAtRank_6 fun v6 => ?_
  refine z_iload_n (pc := 9) x 0 dX1_constantAtRank_9 rfl rfl ?_
  refine z_iload_n (pc := 10) x 3 dX1_constantAtRank_10 rfl rfl ?_
  refine z_call (pc := 11) (z_canV (pc := 11) (As := [zI v1, zI a2]) (st := []) x (ci := 26) rfl (fun b => m_X2_constantAtRank hl (some b) v1 a2) q1781 q1782 (x.2.2.2.2.1 _ q1783) q109 q1784 n_X2_constantAtRank ⟨by decide, by decide⟩ (Nat.le_of_ble_eq_true rfl) dX1_constantAtRank_11) (zv_I fun v11 => ?_) (fun q => zx_thr x (fun z hz => (htab z hz).elim) q)
  refine z_call (pc := 14) (z_canS (pc := 14) (As := [zI v11]) (st := []) x (m_X1_requireFound hl v11) q1790 q1791 q108 q1792 n_X1_requireFound ⟨by decide, by decide⟩ (Nat.le_of_ble_eq_true rfl) dX1_constantAtRank_14) (zv_I fun v14 => ?_) (fun q => zx_thr x (fun z hz => (htab z hz).elim) q)
  exact z_iret (pc := 17) x hret dX1_constantAtRank_17
/-! X0_constantAtRank -/
def s_X0_constantAtRank_13 (E : zE) (b0 : Option Nat) : zM := zRet (some (.int (1 : Int32)))
theorem w_X0_constantAtRank_13 (x : zCx p l R s m args meth c E D tA cX0_constantAtRank 5 yX0_constantAtRank.cls 76) (hl : l.stackTraces = false) (hret : meth.sig.returnType = (Option.some Jvm.ClassFile.FieldType.int)) (hnm : meth.name = yX0_constantAtRank.name) (htab : c.exceptionTable.toList = tableOf [(0, 10, 13, 13), (0, 10, 17, 22)]) (b0 : Option Nat) : zW p l e R s m args below meth c E D tA 5 k0 (s_X0_constantAtRank_13 E b0) [] 13 [zP b0] := by
  unfold s_X0_constantAtRank_13
  refine z_astore (pc := 13) (lv' := [(4, zP b0)]) x dX0_constantAtRank_13 (Nat.le_of_ble_eq_true rfl) rfl ?_
  refine z_iconst (pc := 15) x (v := (1 : Int32)) dX0_constantAtRank_15 rfl ?_
  exact z_iret (pc := 16) x hret dX0_constantAtRank_16
def s_X0_constantAtRank_17 (E : zE) (b0 : Option Nat) : zM := zRet (some (.int (2 : Int32)))
theorem w_X0_constantAtRank_17 (x : zCx p l R s m args meth c E D tA cX0_constantAtRank 5 yX0_constantAtRank.cls 76) (hl : l.stackTraces = false) (hret : meth.sig.returnType = (Option.some Jvm.ClassFile.FieldType.int)) (hnm : meth.name = yX0_constantAtRank.name) (htab : c.exceptionTable.toList = tableOf [(0, 10, 13, 13), (0, 10, 17, 22)]) (b0 : Option Nat) : zW p l e R s m args below meth c E D tA 5 k0 (s_X0_constantAtRank_17 E b0) [] 17 [zP b0] := by
  unfold s_X0_constantAtRank_17
  refine z_astore (pc := 17) (lv' := [(4, zP b0)]) x dX0_constantAtRank_17 (Nat.le_of_ble_eq_true rfl) rfl ?_
  refine z_iconst (pc := 19) x (v := (2 : Int32)) dX0_constantAtRank_19 rfl ?_
  exact z_iret (pc := 20) x hret dX0_constantAtRank_20
def s_X0_constantAtRank (E : zE) (a0 : Option Nat) (a1 : Int32) (a2 : Int32) (a3 : Option Nat) : zM := zC (zRv a0 [(16, fun b => s_X1_constantAtRank E (some b) a1 a2)]) (fun q => zCat1 q [(0, s_X0_constantAtRank_13 E (some q)), (6, s_X0_constantAtRank_17 E (some q))]) (zKI (fun v5 => zSaL E 3 a3 (0 : Int32) ((v5).toInt64) (zRet (some (.int (0 : Int32))))))
theorem m_X0_constantAtRank {l : Launch} {E : zE} {D : va_G} {tA : Nat → ClassId} (hl : l.stackTraces = false) (a0 : Option Nat) (a1 : Int32) (a2 : Int32) (a3 : Option Nat) : zMet l E D tA yX0_constantAtRank (wsW_ yX0_constantAtRank cX0_constantAtRank 5 (Option.some Jvm.ClassFile.FieldType.int) [(0, 10, 13, 13), (0, 10, 17, 22)]) 76 (s_X0_constantAtRank E a0 a1 a2 a3) [zP a0, zI a1, zI a2, zP a3] := by
  refine z_metW hl (by decide +kernel) (by rw [zSl_len]; exact (Nat.le_of_ble_eq_true rfl)) fun p e R s m args below meth c k0 x hret hnm htab => ?_
  refine z_lv [(0, zP a0), (1, zI a1), (2, zI a2), (3, zP a3)] rfl ?_
  unfold s_X0_constantAtRank
  refine z_aload_n (pc := 0) x 3 dX0_constantAtRank_0 rfl rfl ?_
  refine z_iconst (pc := 1) x (v := (0 : Int32)) dX0_constantAtRank_1 rfl ?_
  refine z_aload_n (pc := 2) x 0 dX0_constantAtRank_2 rfl rfl ?_
  refine z_iload_n (pc := 3) x 1 dX0_constantAtRank_3 rfl rfl ?_
  refine z_iload_n (pc := 4) x 2 dX0_constantAtRank_4 rfl rfl ?_
  refine z_call (pc := 5) (z_canV (pc := 5) (As := [zI a1, zI a2]) (st := [zI (0 : Int32), zP a3]) x (ci := 16) rfl (fun b => m_X1_constantAtRank hl (some b) a1 a2) q1777 q1778 (x.2.2.2.2.1 _ q1779) q108 q1780 n_X1_constantAtRank ⟨by decide, by decide⟩ (Nat.le_of_ble_eq_true rfl) dX0_constantAtRank_5) (zv_I fun v5 => ?_) (fun q => zx_cat x [(0, s_X0_constantAtRank_13 E (some q), ⟨0, 10, 13, 13⟩), (6, s_X0_constantAtRank_17 E (some q), ⟨0, 10, 17, 22⟩)] htab (List.forall_mem_cons.mpr ⟨⟨rfl, (show (13 : Nat) ≠ 0 by decide), q1462, z_sub [] rfl (w_X0_constantAtRank_13 x hl hret hnm htab (some q))⟩, (List.forall_mem_cons.mpr ⟨⟨rfl, (show (22 : Nat) ≠ 0 by decide), q1642, z_sub [] rfl (w_X0_constantAtRank_17 x hl hret hnm htab (some q))⟩, (fun _ hj => nomatch hj)⟩)⟩))
  refine z_i2l (pc := 8) x dX0_constantAtRank_8 ?_
  refine z_last (pc := 9) x (t := 3) rfl dX0_constantAtRank_9 ?_
  refine z_goto (pc := 10) (tgt := 21) x dX0_constantAtRank_10 rfl ?_
  refine z_iconst (pc := 21) x (v := (0 : Int32)) dX0_constantAtRank_21 rfl ?_
  exact z_iret (pc := 22) x hret dX0_constantAtRank_22
/-! X2_greatest -/
def s_X2_greatest_34 (E : zE) (k4 : Option Nat → Int32 → Int32 → Int32 → zM) (a0 : Option Nat) (a1 : Int32) (a3 : Int32) (b0 : Int32) : zM := k4 a0 a1 b0 (a3 + (1 : Int32))
theorem w_X2_greatest_34 (x : zCx p l R s m args meth c E D tA cX2_greatest 4 yX2_greatest.cls 73) (hl : l.stackTraces = false) (hret : meth.sig.returnType = (Option.some Jvm.ClassFile.FieldType.int)) (hnm : meth.name = yX2_greatest.name) (htab : ∀ z ∈ c.exceptionTable.toList, False) {k4 : Option Nat → Int32 → Int32 → Int32 → zM} (h4 : ∀ (a0 : Option Nat) (a1 : Int32) (a2 : Int32) (a3 : Int32) , zW p l e R s m args below meth c E D tA 4 k0 (k4 a0 a1 a2 a3) [(0, zP a0), (1, zI a1), (2, zI a2), (3, zI a3)] 4 []) (a0 : Option Nat) (a1 : Int32) (a3 : Int32) (b0 : Int32) : zW p l e R s m args below meth c E D tA 4 k0 (s_X2_greatest_34 E k4 a0 a1 a3 b0) [(0, zP a0), (1, zI a1), (3, zI a3)] 34 [zI b0] := by
  unfold s_X2_greatest_34
  refine z_istore_n (pc := 34) (lv' := [(2, zI b0), (0, zP a0), (1, zI a1), (3, zI a3)]) x dX2_greatest_34 rfl (Nat.le_of_ble_eq_true rfl) rfl ?_
  refine z_iinc (pc := 35) (lv' := [(3, zI (a3 + (1 : Int32))), (2, zI b0), (0, zP a0), (1, zI a1)]) x (v2 := (a3 + (1 : Int32))) 3 dX2_greatest_35 rfl rfl (Nat.le_of_ble_eq_true rfl) rfl ?_
  refine z_goto (pc := 38) (tgt := 4) x dX2_greatest_38 rfl ?_
  exact z_sub [2, 3, 1, 0] rfl (h4 a0 a1 b0 (a3 + (1 : Int32)))
def s_X2_greatest_4 (E : zE) : Nat → Option Nat → Int32 → Int32 → Int32 → zM
  | 0, _, _, _, _ => zFail
  | n + 1, a0, a1, a2, a3 => if (100 : Int32) ≤ a3 then (zRet (some (.int a2))) else (zC (zRv a0 [(26, fun b => s_X2_facts E (some b))]) zThr (zKR (fun v11 => zC (zRv v11 [(32, fun b => s_X4_has E (some b) a1 a3)]) zThr (zKI (fun v16 => if v16 = 0 then (s_X2_greatest_34 E (s_X2_greatest_4 E n) a0 a1 a3 a2) else (zRem a3 (10 : Int32) (fun v26 => s_X2_greatest_34 E (s_X2_greatest_4 E n) a0 a1 a3 (if a2 < v26 then v26 else a2))))))))
theorem w_X2_greatest_4 (x : zCx p l R s m args meth c E D tA cX2_greatest 4 yX2_greatest.cls 73) (hl : l.stackTraces = false) (hret : meth.sig.returnType = (Option.some Jvm.ClassFile.FieldType.int)) (hnm : meth.name = yX2_greatest.name) (htab : ∀ z ∈ c.exceptionTable.toList, False) : ∀ (n : Nat) (a0 : Option Nat) (a1 : Int32) (a2 : Int32) (a3 : Int32), zW p l e R s m args below meth c E D tA 4 k0 (s_X2_greatest_4 E n a0 a1 a2 a3) [(0, zP a0), (1, zI a1), (2, zI a2), (3, zI a3)] 4 [] := by
  intro n
  induction n with
  | zero => intro a0 a1 a2 a3; exact z_fail
  | succ n h4 =>
    intro a0 a1 a2 a3
    rw [s_X2_greatest_4]
    refine z_iload_n (pc := 4) x 3 dX2_greatest_4 rfl rfl ?_
    refine z_bipush (pc := 5) x (v := (100 : Int32)) dX2_greatest_5 rfl ?_
    refine z_icmp_ge (pc := 7) (tgt := 41) x dX2_greatest_7 rfl (fun _ => ?_) (fun _ => ?_)
    · refine z_iload_n (pc := 41) x 2 dX2_greatest_41 rfl rfl ?_
      exact z_iret (pc := 42) x hret dX2_greatest_42
    · refine z_aload_n (pc := 10) x 0 dX2_greatest_10 rfl rfl ?_
      refine z_call (pc := 11) (z_canV (pc := 11) (As := []) (st := []) x (ci := 26) rfl (fun b => m_X2_facts hl (some b)) q984 q369 (x.2.2.2.2.1 _ q370) q109 q371 n_X2_facts ⟨by decide, by decide⟩ (Nat.le_of_ble_eq_true rfl) dX2_greatest_11) (zv_R fun v11 => ?_) (fun q => zx_thr x (fun z hz => (htab z hz).elim) q)
      refine z_iload_n (pc := 14) x 1 dX2_greatest_14 rfl rfl ?_
      refine z_iload_n (pc := 15) x 3 dX2_greatest_15 rfl rfl ?_
      refine z_call (pc := 16) (z_canV (pc := 16) (As := [zI a1, zI a3]) (st := []) x (ci := 32) rfl (fun b => m_X4_has hl (some b) a1 a3) q1212 q814 (x.2.2.2.2.1 _ q815) q114 q816 n_X4_has ⟨by decide, by decide⟩ (Nat.le_of_ble_eq_true rfl) dX2_greatest_16) (zv_I fun v16 => ?_) (fun q => zx_thr x (fun z hz => (htab z hz).elim) q)
      refine z_if_eq (pc := 19) (tgt := 33) x dX2_greatest_19 rfl (fun _ => ?_) (fun _ => ?_)
      · refine z_iload_n (pc := 33) x 2 dX2_greatest_33 rfl rfl ?_
        exact z_sub [0, 1, 3] rfl (w_X2_greatest_34 x hl hret hnm htab h4 a0 a1 a3 a2)
      · refine z_iload_n (pc := 22) x 2 dX2_greatest_22 rfl rfl ?_
        refine z_iload_n (pc := 23) x 3 dX2_greatest_23 rfl rfl ?_
        refine z_bipush (pc := 24) x (v := (10 : Int32)) dX2_greatest_24 rfl ?_
        refine z_irem (pc := 26) x dX2_greatest_26 fun v26 => ?_
        refine z_mmax (pc := 27) x q1805 q610 q130 q611 (by omega) (zSum (k := 0) rfl (by omega)) dX2_greatest_27 ?_
        refine z_goto (pc := 30) (tgt := 34) x dX2_greatest_30 rfl ?_
        exact z_sub [0, 1, 3] rfl (w_X2_greatest_34 x hl hret hnm htab h4 a0 a1 a3 (if a2 < v26 then v26 else a2))
def s_X2_greatest (E : zE) (a0 : Option Nat) (a1 : Int32) : zM := s_X2_greatest_4 E zN a0 a1 (-1 : Int32) (0 : Int32)
theorem m_X2_greatest {l : Launch} {E : zE} {D : va_G} {tA : Nat → ClassId} (hl : l.stackTraces = false) (a0 : Option Nat) (a1 : Int32) : zMet l E D tA yX2_greatest (ws_ yX2_greatest cX2_greatest 4 (Option.some Jvm.ClassFile.FieldType.int)) 73 (s_X2_greatest E a0 a1) [zP a0, zI a1] := by
  refine z_met hl (by decide +kernel) (by rw [zSl_len]; exact (Nat.le_of_ble_eq_true rfl)) fun p e R s m args below meth c k0 x hret hnm htab => ?_
  refine z_lv [(0, zP a0), (1, zI a1)] rfl ?_
  unfold s_X2_greatest
  refine z_iconst (pc := 0) x (v := (-1 : Int32)) dX2_greatest_0 rfl ?_
  refine z_istore_n (pc := 1) (lv' := [(2, zI (-1 : Int32)), (0, zP a0), (1, zI a1)]) x dX2_greatest_1 rfl (Nat.le_of_ble_eq_true rfl) rfl ?_
  refine z_iconst (pc := 2) x (v := (0 : Int32)) dX2_greatest_2 rfl ?_
  refine z_istore_n (pc := 3) (lv' := [(3, zI (0 : Int32)), (2, zI (-1 : Int32)), (0, zP a0), (1, zI a1)]) x dX2_greatest_3 rfl (Nat.le_of_ble_eq_true rfl) rfl ?_
  exact z_sub [2, 3, 1, 0] rfl (w_X2_greatest_4 x hl hret hnm htab zN a0 a1 (-1 : Int32) (0 : Int32))
/-! X1_greatest -/
def s_X1_greatest (E : zE) (a0 : Option Nat) (a1 : Int32) : zM := zC (s_X1_requirePredicate E a1) zThr (zKI (fun v1 => zGetR a0 16 0 (fun v6 => zC (zRv v6 [(26, fun b => s_X2_greatest E (some b) v1)]) zThr (zKI (fun v10 => zC (s_X1_requireFound E v10) zThr (zKI (fun v13 => zRet (some (.int v13)))))))))
theorem m_X1_greatest {l : Launch} {E : zE} {D : va_G} {tA : Nat → ClassId} (hl : l.stackTraces = false) (a0 : Option Nat) (a1 : Int32) : zMet l E D tA yX1_greatest (ws_ yX1_greatest cX1_greatest 3 (Option.some Jvm.ClassFile.FieldType.int)) 74 (s_X1_greatest E a0 a1) [zP a0, zI a1] := by
  refine z_met hl (by decide +kernel) (by rw [zSl_len]; exact (Nat.le_of_ble_eq_true rfl)) fun p e R s m args below meth c k0 x hret hnm htab => ?_
  refine z_lv [(0, zP a0), (1, zI a1)] rfl ?_
  unfold s_X1_greatest
  refine z_iload_n (pc := 0) x 1 dX1_greatest_0 rfl rfl ?_
  refine z_call (pc := 1) (z_canS (pc := 1) (As := [zI a1]) (st := []) x (m_X1_requirePredicate hl a1) q1519 q1520 q108 q1521 n_X1_requirePredicate ⟨by decide, by decide⟩ (Nat.le_of_ble_eq_true rfl) dX1_greatest_1) (zv_I fun v1 => ?_) (fun q => zx_thr x (fun z hz => (htab z hz).elim) q)
  refine z_istore_n (pc := 4) (lv' := [(2, zI v1), (0, zP a0), (1, zI a1)]) x dX1_greatest_4 rfl (Nat.le_of_ble_eq_true rfl) rfl ?_
  refine z_aload_n (pc := 5) x 1 dX1_greatest_5 rfl rfl ?_
  refine z_get (pc := 6) (fun _ _ h => zAsR_eq h) x in_X1 (ci := 16) rfl (k := 0) (by decide) q320 (fun _ h => h) dX1_greatest_6 fun v6 => ?_
  refine z_iload_n (pc := 9) x 0 dX1_greatest_9 rfl rfl ?_
  refine z_call (pc := 10) (z_canV (pc := 10) (As := [zI v1]) (st := []) x (ci := 26) rfl (fun b => m_X2_greatest hl (some b) v1) q1801 q1802 (x.2.2.2.2.1 _ q1803) q109 q1804 n_X2_greatest ⟨by decide, by decide⟩ (Nat.le_of_ble_eq_true rfl) dX1_greatest_10) (zv_I fun v10 => ?_) (fun q => zx_thr x (fun z hz => (htab z hz).elim) q)
  refine z_call (pc := 13) (z_canS (pc := 13) (As := [zI v10]) (st := []) x (m_X1_requireFound hl v10) q1790 q1791 q108 q1792 n_X1_requireFound ⟨by decide, by decide⟩ (Nat.le_of_ble_eq_true rfl) dX1_greatest_13) (zv_I fun v13 => ?_) (fun q => zx_thr x (fun z hz => (htab z hz).elim) q)
  exact z_iret (pc := 16) x hret dX1_greatest_16
/-! X0_greatest -/
def s_X0_greatest_12 (E : zE) (b0 : Option Nat) : zM := zRet (some (.int (1 : Int32)))
theorem w_X0_greatest_12 (x : zCx p l R s m args meth c E D tA cX0_greatest 4 yX0_greatest.cls 75) (hl : l.stackTraces = false) (hret : meth.sig.returnType = (Option.some Jvm.ClassFile.FieldType.int)) (hnm : meth.name = yX0_greatest.name) (htab : c.exceptionTable.toList = tableOf [(0, 9, 12, 13), (0, 9, 15, 22)]) (b0 : Option Nat) : zW p l e R s m args below meth c E D tA 4 k0 (s_X0_greatest_12 E b0) [] 12 [zP b0] := by
  unfold s_X0_greatest_12
  refine z_astore_n (pc := 12) (lv' := [(3, zP b0)]) x dX0_greatest_12 rfl (Nat.le_of_ble_eq_true rfl) rfl ?_
  refine z_iconst (pc := 13) x (v := (1 : Int32)) dX0_greatest_13 rfl ?_
  exact z_iret (pc := 14) x hret dX0_greatest_14
def s_X0_greatest_15 (E : zE) (b0 : Option Nat) : zM := zRet (some (.int (2 : Int32)))
theorem w_X0_greatest_15 (x : zCx p l R s m args meth c E D tA cX0_greatest 4 yX0_greatest.cls 75) (hl : l.stackTraces = false) (hret : meth.sig.returnType = (Option.some Jvm.ClassFile.FieldType.int)) (hnm : meth.name = yX0_greatest.name) (htab : c.exceptionTable.toList = tableOf [(0, 9, 12, 13), (0, 9, 15, 22)]) (b0 : Option Nat) : zW p l e R s m args below meth c E D tA 4 k0 (s_X0_greatest_15 E b0) [] 15 [zP b0] := by
  unfold s_X0_greatest_15
  refine z_astore_n (pc := 15) (lv' := [(3, zP b0)]) x dX0_greatest_15 rfl (Nat.le_of_ble_eq_true rfl) rfl ?_
  refine z_iconst (pc := 16) x (v := (2 : Int32)) dX0_greatest_16 rfl ?_
  exact z_iret (pc := 17) x hret dX0_greatest_17
def s_X0_greatest (E : zE) (a0 : Option Nat) (a1 : Int32) (a2 : Option Nat) : zM := zC (zRv a0 [(16, fun b => s_X1_greatest E (some b) a1)]) (fun q => zCat1 q [(0, s_X0_greatest_12 E (some q)), (6, s_X0_greatest_15 E (some q))]) (zKI (fun v4 => zSaL E 3 a2 (0 : Int32) ((v4).toInt64) (zRet (some (.int (0 : Int32))))))
theorem m_X0_greatest {l : Launch} {E : zE} {D : va_G} {tA : Nat → ClassId} (hl : l.stackTraces = false) (a0 : Option Nat) (a1 : Int32) (a2 : Option Nat) : zMet l E D tA yX0_greatest (wsW_ yX0_greatest cX0_greatest 4 (Option.some Jvm.ClassFile.FieldType.int) [(0, 9, 12, 13), (0, 9, 15, 22)]) 75 (s_X0_greatest E a0 a1 a2) [zP a0, zI a1, zP a2] := by
  refine z_metW hl (by decide +kernel) (by rw [zSl_len]; exact (Nat.le_of_ble_eq_true rfl)) fun p e R s m args below meth c k0 x hret hnm htab => ?_
  refine z_lv [(0, zP a0), (1, zI a1), (2, zP a2)] rfl ?_
  unfold s_X0_greatest
  refine z_aload_n (pc := 0) x 2 dX0_greatest_0 rfl rfl ?_
  refine z_iconst (pc := 1) x (v := (0 : Int32)) dX0_greatest_1 rfl ?_
  refine z_aload_n (pc := 2) x 0 dX0_greatest_2 rfl rfl ?_
  refine z_iload_n (pc := 3) x 1 dX0_greatest_3 rfl rfl ?_
  refine z_call (pc := 4) (z_canV (pc := 4) (As := [zI a1]) (st := [zI (0 : Int32), zP a2]) x (ci := 16) rfl (fun b => m_X1_greatest hl (some b) a1) q1797 q1798 (x.2.2.2.2.1 _ q1799) q108 q1800 n_X1_greatest ⟨by decide, by decide⟩ (Nat.le_of_ble_eq_true rfl) dX0_greatest_4) (zv_I fun v4 => ?_) (fun q => zx_cat x [(0, s_X0_greatest_12 E (some q), ⟨0, 9, 12, 13⟩), (6, s_X0_greatest_15 E (some q), ⟨0, 9, 15, 22⟩)] htab (List.forall_mem_cons.mpr ⟨⟨rfl, (show (13 : Nat) ≠ 0 by decide), q1462, z_sub [] rfl (w_X0_greatest_12 x hl hret hnm htab (some q))⟩, (List.forall_mem_cons.mpr ⟨⟨rfl, (show (22 : Nat) ≠ 0 by decide), q1642, z_sub [] rfl (w_X0_greatest_15 x hl hret hnm htab (some q))⟩, (fun _ hj => nomatch hj)⟩)⟩))
  refine z_i2l (pc := 7) x dX0_greatest_7 ?_
  refine z_last (pc := 8) x (t := 3) rfl dX0_greatest_8 ?_
  refine z_goto (pc := 9) (tgt := 18) x dX0_greatest_9 rfl ?_
  refine z_iconst (pc := 18) x (v := (0 : Int32)) dX0_greatest_18 rfl ?_
  exact z_iret (pc := 19) x hret dX0_greatest_19
/-! X2_requireTrue -/
def s_X2_requireTrue (E : zE) (a0 : Option Nat) (a1 : Int32) (a2 : Int32) : zM := zC (zRv a0 [(26, fun b => s_X2_facts E (some b))]) zThr (zKR (fun v1 => zC (zRv v1 [(32, fun b => s_X4_has E (some b) a1 a2)]) zThr (zKI (fun v6 => zC (s_X1_requireElement E v6) zThr (zKV (zRet none))))))
theorem m_X2_requireTrue {l : Launch} {E : zE} {D : va_G} {tA : Nat → ClassId} (hl : l.stackTraces = false) (a0 : Option Nat) (a1 : Int32) (a2 : Int32) : zMet l E D tA yX2_requireTrue (ws_ yX2_requireTrue cX2_requireTrue 3 (Option.none : Option Jvm.ClassFile.FieldType)) 73 (s_X2_requireTrue E a0 a1 a2) [zP a0, zI a1, zI a2] := by
  refine z_met hl (by decide +kernel) (by rw [zSl_len]; exact (Nat.le_of_ble_eq_true rfl)) fun p e R s m args below meth c k0 x hret hnm htab => ?_
  refine z_lv [(0, zP a0), (1, zI a1), (2, zI a2)] rfl ?_
  unfold s_X2_requireTrue
  refine z_aload_n (pc := 0) x 0 dX2_requireTrue_0 rfl rfl ?_
  refine z_call (pc := 1) (z_canV (pc := 1) (As := []) (st := []) x (ci := 26) rfl (fun b => m_X2_facts hl (some b)) q984 q369 (x.2.2.2.2.1 _ q370) q109 q371 n_X2_facts ⟨by decide, by decide⟩ (Nat.le_of_ble_eq_true rfl) dX2_requireTrue_1) (zv_R fun v1 => ?_) (fun q => zx_thr x (fun z hz => (htab z hz).elim) q)
  refine z_iload_n (pc := 4) x 1 dX2_requireTrue_4 rfl rfl ?_
  refine z_iload_n (pc := 5) x 2 dX2_requireTrue_5 rfl rfl ?_
  refine z_call (pc := 6) (z_canV (pc := 6) (As := [zI a1, zI a2]) (st := []) x (ci := 32) rfl (fun b => m_X4_has hl (some b) a1 a2) q1212 q814 (x.2.2.2.2.1 _ q815) q114 q816 n_X4_has ⟨by decide, by decide⟩ (Nat.le_of_ble_eq_true rfl) dX2_requireTrue_6) (zv_I fun v6 => ?_) (fun q => zx_thr x (fun z hz => (htab z hz).elim) q)
  refine z_call (pc := 9) (z_canSN (pc := 9) (As := [zI v6]) (st := []) x (m_X1_requireElement hl v6) q1655 q1656 q108 q1657 n_X1_requireElement ⟨by decide, by decide⟩ (Nat.le_of_ble_eq_true rfl) dX2_requireTrue_9) (zv_V ?_) (fun q => zx_thr x (fun z hz => (htab z hz).elim) q)
  exact z_vret (pc := 12) x hret dX2_requireTrue_12
/-! X1_requireTrue -/
def s_X1_requireTrue (E : zE) (a0 : Option Nat) (a1 : Int32) (a2 : Int32) (a3 : Int32) : zM := zC (s_X1_requireCode E a1 a2 a3) zThr (zKI (fun v3 => zGetR a0 16 0 (fun v9 => zC (zRv v9 [(26, fun b => s_X2_requireTrue E (some b) (a1 - (97 : Int32)) v3)]) zThr (zKV (zRet (some (.int v3)))))))
theorem m_X1_requireTrue {l : Launch} {E : zE} {D : va_G} {tA : Nat → ClassId} (hl : l.stackTraces = false) (a0 : Option Nat) (a1 : Int32) (a2 : Int32) (a3 : Int32) : zMet l E D tA yX1_requireTrue (ws_ yX1_requireTrue cX1_requireTrue 5 (Option.some Jvm.ClassFile.FieldType.int)) 74 (s_X1_requireTrue E a0 a1 a2 a3) [zP a0, zI a1, zI a2, zI a3] := by
  refine z_met hl (by decide +kernel) (by rw [zSl_len]; exact (Nat.le_of_ble_eq_true rfl)) fun p e R s m args below meth c k0 x hret hnm htab => ?_
  refine z_lv [(0, zP a0), (1, zI a1), (2, zI a2), (3, zI a3)] rfl ?_
  unfold s_X1_requireTrue
  refine z_iload_n (pc := 0) x 1 dX1_requireTrue_0 rfl rfl ?_
  refine z_iload_n (pc := 1) x 2 dX1_requireTrue_1 rfl rfl ?_
  refine z_iload_n (pc := 2) x 3 dX1_requireTrue_2 rfl rfl ?_
  refine z_call (pc := 3) (z_canS (pc := 3) (As := [zI a1, zI a2, zI a3]) (st := []) x (m_X1_requireCode hl a1 a2 a3) q1740 q1517 q108 q1518 n_X1_requireCode ⟨by decide, by decide⟩ (Nat.le_of_ble_eq_true rfl) dX1_requireTrue_3) (zv_I fun v3 => ?_) (fun q => zx_thr x (fun z hz => (htab z hz).elim) q)
  refine z_istore (pc := 6) (lv' := [(4, zI v3), (0, zP a0), (1, zI a1), (2, zI a2), (3, zI a3)]) x dX1_requireTrue_6 (Nat.le_of_ble_eq_true rfl) rfl ?_
  refine z_aload_n (pc := 8) x 1 dX1_requireTrue_8 rfl rfl ?_
  refine z_get (pc := 9) (fun _ _ h => zAsR_eq h) x in_X1 (ci := 16) rfl (k := 0) (by decide) q320 (fun _ h => h) dX1_requireTrue_9 fun v9 => ?_
  refine z_iload_n (pc := 12) x 2 dX1_requireTrue_12 rfl rfl ?_
  refine z_bipush (pc := 13) x (v := (97 : Int32)) dX1_requireTrue_13 rfl ?_
  refine z_isub (pc := 15) x dX1_requireTrue_15 ?_
  refine z_iload (pc := 16) x 0 dX1_requireTrue_16 rfl ?_
  refine z_call (pc := 18) (z_canV (pc := 18) (As := [zI (a1 - (97 : Int32)), zI v3]) (st := []) x (ci := 26) rfl (fun b => m_X2_requireTrue hl (some b) (a1 - (97 : Int32)) v3) q1817 q1818 (x.2.2.2.2.1 _ q1819) q109 q1820 n_X2_requireTrue ⟨by decide, by decide⟩ (Nat.le_of_ble_eq_true rfl) dX1_requireTrue_18) (zv_V ?_) (fun q => zx_thr x (fun z hz => (htab z hz).elim) q)
  refine z_iload (pc := 21) x 0 dX1_requireTrue_21 rfl ?_
  exact z_iret (pc := 23) x hret dX1_requireTrue_23
/-! X12_init -/
def s_X12_init_63 (E : zE) (k23 : Option Nat → Option Nat → Int32 → zM) (k31 : Option Nat → Option Nat → Int32 → Int32 → zM) (a0 : Option Nat) (a1 : Option Nat) (a2 : Int32) (a3 : Int32) (b0 : Option Nat) (b1 : Int32) (b2 : Int32) : zM := zSaI E 0 b0 b1 b2 (k31 a0 a1 a2 (a3 + (1 : Int32)))
theorem w_X12_init_63 (x : zCx p l R s m args meth c E D tA cX12_init 4 yX12_init.cls 11) (hl : l.stackTraces = false) (hret : meth.sig.returnType = (Option.none : Option Jvm.ClassFile.FieldType)) (hnm : meth.name = yX12_init.name) (htab : ∀ z ∈ c.exceptionTable.toList, False) {k23 : Option Nat → Option Nat → Int32 → zM} (h23 : ∀ (a0 : Option Nat) (a1 : Option Nat) (a2 : Int32) , zW p l e R s m args below meth c E D tA 4 k0 (k23 a0 a1 a2) [(0, zP a0), (1, zP a1), (2, zI a2)] 23 []) {k31 : Option Nat → Option Nat → Int32 → Int32 → zM} (h31 : ∀ (a0 : Option Nat) (a1 : Option Nat) (a2 : Int32) (a3 : Int32) , zW p l e R s m args below meth c E D tA 4 k0 (k31 a0 a1 a2 a3) [(0, zP a0), (1, zP a1), (2, zI a2), (3, zI a3)] 31 []) (a0 : Option Nat) (a1 : Option Nat) (a2 : Int32) (a3 : Int32) (b0 : Option Nat) (b1 : Int32) (b2 : Int32) : zW p l e R s m args below meth c E D tA 4 k0 (s_X12_init_63 E k23 k31 a0 a1 a2 a3 b0 b1 b2) [(0, zP a0), (1, zP a1), (2, zI a2), (3, zI a3)] 63 [zI b2, zI b1, zP b0] := by
  unfold s_X12_init_63
  refine z_iast (pc := 63) x (t := 0) rfl dX12_init_63 ?_
  refine z_iinc (pc := 64) (lv' := [(3, zI (a3 + (1 : Int32))), (0, zP a0), (1, zP a1), (2, zI a2)]) x (v2 := (a3 + (1 : Int32))) 3 dX12_init_64 rfl rfl (Nat.le_of_ble_eq_true rfl) rfl ?_
  refine z_goto (pc := 67) (tgt := 31) x dX12_init_67 rfl ?_
  exact z_sub [1, 2, 3, 0] rfl (h31 a0 a1 a2 (a3 + (1 : Int32)))
def s_X12_init_31 (E : zE) (k23 : Option Nat → Option Nat → Int32 → zM) : Nat → Option Nat → Option Nat → Int32 → Int32 → zM
  | 0, _, _, _, _ => zFail
  | n + 1, a0, a1, a2, a3 => if (100 : Int32) ≤ a3 then (k23 a0 a1 (a2 + (1 : Int32))) else (zGetR a0 18 1 (fun v38 => zGaR 7 v38 a2 (fun v42 => zGetR a1 26 0 (fun v45 => zC (zRv v45 [(32, fun b => s_X4_has E (some b) a2 a3)]) zThr (zKI (fun v50 => if v50 = 0 then (s_X12_init_63 E k23 (s_X12_init_31 E k23 n) a0 a1 a2 a3 v42 a3 (1000 : Int32)) else (s_X12_init_63 E k23 (s_X12_init_31 E k23 n) a0 a1 a2 a3 v42 a3 (0 : Int32))))))))
theorem w_X12_init_31 (x : zCx p l R s m args meth c E D tA cX12_init 4 yX12_init.cls 11) (hl : l.stackTraces = false) (hret : meth.sig.returnType = (Option.none : Option Jvm.ClassFile.FieldType)) (hnm : meth.name = yX12_init.name) (htab : ∀ z ∈ c.exceptionTable.toList, False) {k23 : Option Nat → Option Nat → Int32 → zM} (h23 : ∀ (a0 : Option Nat) (a1 : Option Nat) (a2 : Int32) , zW p l e R s m args below meth c E D tA 4 k0 (k23 a0 a1 a2) [(0, zP a0), (1, zP a1), (2, zI a2)] 23 []) : ∀ (n : Nat) (a0 : Option Nat) (a1 : Option Nat) (a2 : Int32) (a3 : Int32), zW p l e R s m args below meth c E D tA 4 k0 (s_X12_init_31 E k23 n a0 a1 a2 a3) [(0, zP a0), (1, zP a1), (2, zI a2), (3, zI a3)] 31 [] := by
  intro n
  induction n with
  | zero => intro a0 a1 a2 a3; exact z_fail
  | succ n h31 =>
    intro a0 a1 a2 a3
    rw [s_X12_init_31]
    refine z_iload_n (pc := 31) x 3 dX12_init_31 rfl rfl ?_
    refine z_bipush (pc := 32) x (v := (100 : Int32)) dX12_init_32 rfl ?_
    refine z_icmp_ge (pc := 34) (tgt := 70) x dX12_init_34 rfl (fun _ => ?_) (fun _ => ?_)
    · refine z_iinc (pc := 70) (lv' := [(2, zI (a2 + (1 : Int32))), (0, zP a0), (1, zP a1), (3, zI a3)]) x (v2 := (a2 + (1 : Int32))) 2 dX12_init_70 rfl rfl (Nat.le_of_ble_eq_true rfl) rfl ?_
      refine z_goto (pc := 73) (tgt := 23) x dX12_init_73 rfl ?_
      exact z_sub [1, 2, 0] rfl (h23 a0 a1 (a2 + (1 : Int32)))
    · refine z_aload_n (pc := 37) x 0 dX12_init_37 rfl rfl ?_
      refine z_get (pc := 38) (fun _ _ h => zAsR_eq h) x in_X12 (ci := 18) rfl (k := 1) (by decide) q999 (fun _ h => h) dX12_init_38 fun v38 => ?_
      refine z_iload_n (pc := 41) x 2 dX12_init_41 rfl rfl ?_
      refine z_aald (pc := 42) x (t := 7) rfl rfl dX12_init_42 fun v42 => ?_
      refine z_iload_n (pc := 43) x 3 dX12_init_43 rfl rfl ?_
      refine z_aload_n (pc := 44) x 1 dX12_init_44 rfl rfl ?_
      refine z_getN (pc := 45) (fun _ _ h => zAsR_eq h) x in_X2 (ci := 26) rfl (k := 0) (by decide) q249 (fun _ h => h) dX12_init_45 fun v45 => ?_
      refine z_iload_n (pc := 48) x 2 dX12_init_48 rfl rfl ?_
      refine z_iload_n (pc := 49) x 3 dX12_init_49 rfl rfl ?_
      refine z_call (pc := 50) (z_canV (pc := 50) (As := [zI a2, zI a3]) (st := [zI a3, zP v42]) x (ci := 32) rfl (fun b => m_X4_has hl (some b) a2 a3) q997 q814 (x.2.2.2.2.1 _ q815) q114 q816 n_X4_has ⟨by decide, by decide⟩ (Nat.le_of_ble_eq_true rfl) dX12_init_50) (zv_I fun v50 => ?_) (fun q => zx_thr x (fun z hz => (htab z hz).elim) q)
      refine z_if_eq (pc := 53) (tgt := 60) x dX12_init_53 rfl (fun _ => ?_) (fun _ => ?_)
      · refine z_sipush (pc := 60) x (v := (1000 : Int32)) dX12_init_60 rfl ?_
        exact z_sub [0, 1, 2, 3] rfl (w_X12_init_63 x hl hret hnm htab h23 h31 a0 a1 a2 a3 v42 a3 (1000 : Int32))
      · refine z_iconst (pc := 56) x (v := (0 : Int32)) dX12_init_56 rfl ?_
        refine z_goto (pc := 57) (tgt := 63) x dX12_init_57 rfl ?_
        exact z_sub [0, 1, 2, 3] rfl (w_X12_init_63 x hl hret hnm htab h23 h31 a0 a1 a2 a3 v42 a3 (0 : Int32))
def s_X12_init_23 (E : zE) : Nat → Option Nat → Option Nat → Int32 → zM
  | 0, _, _, _ => zFail
  | n + 1, a0, a1, a2 => if (8 : Int32) ≤ a2 then (zRet none) else (s_X12_init_31 E (s_X12_init_23 E n) zN a0 a1 a2 (0 : Int32))
theorem w_X12_init_23 (x : zCx p l R s m args meth c E D tA cX12_init 4 yX12_init.cls 11) (hl : l.stackTraces = false) (hret : meth.sig.returnType = (Option.none : Option Jvm.ClassFile.FieldType)) (hnm : meth.name = yX12_init.name) (htab : ∀ z ∈ c.exceptionTable.toList, False) : ∀ (n : Nat) (a0 : Option Nat) (a1 : Option Nat) (a2 : Int32), zW p l e R s m args below meth c E D tA 4 k0 (s_X12_init_23 E n a0 a1 a2) [(0, zP a0), (1, zP a1), (2, zI a2)] 23 [] := by
  intro n
  induction n with
  | zero => intro a0 a1 a2; exact z_fail
  | succ n h23 =>
    intro a0 a1 a2
    rw [s_X12_init_23]
    refine z_iload_n (pc := 23) x 2 dX12_init_23 rfl rfl ?_
    refine z_bipush (pc := 24) x (v := (8 : Int32)) dX12_init_24 rfl ?_
    refine z_icmp_ge (pc := 26) (tgt := 76) x dX12_init_26 rfl (fun _ => ?_) (fun _ => ?_)
    · exact z_vret (pc := 76) x hret dX12_init_76
    · refine z_iconst (pc := 29) x (v := (0 : Int32)) dX12_init_29 rfl ?_
      refine z_istore_n (pc := 30) (lv' := [(3, zI (0 : Int32)), (0, zP a0), (1, zP a1), (2, zI a2)]) x dX12_init_30 rfl (Nat.le_of_ble_eq_true rfl) rfl ?_
      exact z_sub [1, 2, 3, 0] rfl (w_X12_init_31 x hl hret hnm htab h23 zN a0 a1 a2 (0 : Int32))
def s_X12_init (E : zE) (a0 : Option Nat) (a1 : Option Nat) : zM := zSp a0 (fun _ => zNewM 7 0 zAr0 (8 : Int32) (100 : Int32) (fun v9 => zSet E a0 18 1 (zVal (zP v9)) (zSet E a0 18 0 (zVal (zP a1)) (s_X12_init_23 E zN a0 a1 (0 : Int32)))))
theorem m_X12_init {l : Launch} {E : zE} {D : va_G} {tA : Nat → ClassId} (hl : l.stackTraces = false) (a0 : Option Nat) (a1 : Option Nat) : zMet l E D tA yX12_init (ws_ yX12_init cX12_init 4 (Option.none : Option Jvm.ClassFile.FieldType)) 11 (s_X12_init E a0 a1) [zP a0, zP a1] := by
  refine z_met hl (by decide +kernel) (by rw [zSl_len]; exact (Nat.le_of_ble_eq_true rfl)) fun p e R s m args below meth c k0 x hret hnm htab => ?_
  refine z_lv [(0, zP a0), (1, zP a1)] rfl ?_
  unfold s_X12_init
  refine z_aload_n (pc := 0) x 0 dX12_init_0 rfl rfl ?_
  refine z_objInit (pc := 1) x q994 q173 q174 (by omega) (zSum (k := 0) rfl (by omega)) dX12_init_1 ?_
  refine z_aload_n (pc := 4) x 0 dX12_init_4 rfl rfl ?_
  refine z_bipush (pc := 5) x (v := (8 : Int32)) dX12_init_5 rfl ?_
  refine z_bipush (pc := 7) x (v := (100 : Int32)) dX12_init_7 rfl ?_
  refine z_newM (pc := 9) x (t := 7) (t1 := 0) (ty := .int) rfl rfl (fun _ hc => hc) (by decide) rfl rfl q995 q996 q240 (fun _ _ => rfl) dX12_init_9 fun v9 => ?_
  refine z_setF (pc := 13) (v := zP v9) x in_X12 tyX12 tyX12_ok nmX12 (ci := 18) rfl (k := 1) (by decide) q999 (fun _ h => h) rfl hnm rfl (zfitR rfl _).1 (zfitR rfl _).2 dX12_init_13 ?_
  refine z_aload_n (pc := 16) x 0 dX12_init_16 rfl rfl ?_
  refine z_aload_n (pc := 17) x 1 dX12_init_17 rfl rfl ?_
  refine z_setF (pc := 18) (v := zP a1) x in_X12 tyX12 tyX12_ok nmX12 (ci := 18) rfl (k := 0) (by decide) q998 (fun _ h => h) rfl hnm rfl (zfitR rfl _).1 (zfitR rfl _).2 dX12_init_18 ?_
  refine z_iconst (pc := 21) x (v := (0 : Int32)) dX12_init_21 rfl ?_
  refine z_istore_n (pc := 22) (lv' := [(2, zI (0 : Int32)), (0, zP a0), (1, zP a1)]) x dX12_init_22 rfl (Nat.le_of_ble_eq_true rfl) rfl ?_
  exact z_sub [1, 2, 0] rfl (w_X12_init_23 x hl hret hnm htab zN a0 a1 (0 : Int32))
/-! X12_sum -/
def s_X12_sum_37 (E : zE) (k13 : Int32 → Option Nat → Int32 → Int32 → zM) : Nat → Int32 → Option Nat → Int32 → Int32 → Option Nat → Int32 → Int32 → zM
  | 0, _, _, _, _, _, _, _ => zFail
  | n + 1, a1, a2, a3, a4, a6, a7, a8 => if a7 ≤ a8 then (k13 a1 a2 a3 (a4 + (1 : Int32))) else (zGaI 0 a6 a8 (fun v48 => (s_X12_sum_37 E k13 n) (a1 + v48) a2 a3 a4 a6 a7 (a8 + (1 : Int32))))
theorem w_X12_sum_37 (x : zCx p l R s m args meth c E D tA cX12_sum 10 yX12_sum.cls 9) (hl : l.stackTraces = false) (hret : meth.sig.returnType = (Option.some Jvm.ClassFile.FieldType.int)) (hnm : meth.name = yX12_sum.name) (htab : ∀ z ∈ c.exceptionTable.toList, False) {k13 : Int32 → Option Nat → Int32 → Int32 → zM} (h13 : ∀ (a1 : Int32) (a2 : Option Nat) (a3 : Int32) (a4 : Int32) , zW p l e R s m args below meth c E D tA 10 k0 (k13 a1 a2 a3 a4) [(1, zI a1), (2, zP a2), (3, zI a3), (4, zI a4)] 13 []) : ∀ (n : Nat) (a1 : Int32) (a2 : Option Nat) (a3 : Int32) (a4 : Int32) (a6 : Option Nat) (a7 : Int32) (a8 : Int32), zW p l e R s m args below meth c E D tA 10 k0 (s_X12_sum_37 E k13 n a1 a2 a3 a4 a6 a7 a8) [(1, zI a1), (2, zP a2), (3, zI a3), (4, zI a4), (6, zP a6), (7, zI a7), (8, zI a8)] 37 [] := by
  intro n
  induction n with
  | zero => intro a1 a2 a3 a4 a6 a7 a8; exact z_fail
  | succ n h37 =>
    intro a1 a2 a3 a4 a6 a7 a8
    rw [s_X12_sum_37]
    refine z_iload (pc := 37) x 6 dX12_sum_37 rfl ?_
    refine z_iload (pc := 39) x 5 dX12_sum_39 rfl ?_
    refine z_icmp_ge (pc := 41) (tgt := 62) x dX12_sum_41 rfl (fun _ => ?_) (fun _ => ?_)
    · refine z_iinc (pc := 62) (lv' := [(4, zI (a4 + (1 : Int32))), (1, zI a1), (2, zP a2), (3, zI a3), (6, zP a6), (7, zI a7), (8, zI a8)]) x (v2 := (a4 + (1 : Int32))) 3 dX12_sum_62 rfl rfl (Nat.le_of_ble_eq_true rfl) rfl ?_
      refine z_goto (pc := 65) (tgt := 13) x dX12_sum_65 rfl ?_
      exact z_sub [1, 2, 3, 0] rfl (h13 a1 a2 a3 (a4 + (1 : Int32)))
    · refine z_aload (pc := 44) x 4 dX12_sum_44 rfl ?_
      refine z_iload (pc := 46) x 6 dX12_sum_46 rfl ?_
      refine z_iald (pc := 48) x (t := 0) rfl dX12_sum_48 fun v48 => ?_
      refine z_istore (pc := 49) (lv' := [(9, zI v48), (1, zI a1), (2, zP a2), (3, zI a3), (4, zI a4), (6, zP a6), (7, zI a7), (8, zI a8)]) x dX12_sum_49 (Nat.le_of_ble_eq_true rfl) rfl ?_
      refine z_iload_n (pc := 51) x 1 dX12_sum_51 rfl rfl ?_
      refine z_iload (pc := 52) x 0 dX12_sum_52 rfl ?_
      refine z_iadd (pc := 54) x dX12_sum_54 ?_
      refine z_istore_n (pc := 55) (lv' := [(1, zI (a1 + v48)), (9, zI v48), (2, zP a2), (3, zI a3), (4, zI a4), (6, zP a6), (7, zI a7), (8, zI a8)]) x dX12_sum_55 rfl (Nat.le_of_ble_eq_true rfl) rfl ?_
      refine z_iinc (pc := 56) (lv' := [(8, zI (a8 + (1 : Int32))), (1, zI (a1 + v48)), (9, zI v48), (2, zP a2), (3, zI a3), (4, zI a4), (6, zP a6), (7, zI a7)]) x (v2 := (a8 + (1 : Int32))) 7 dX12_sum_56 rfl rfl (Nat.le_of_ble_eq_true rfl) rfl ?_
      refine z_goto (pc := 59) (tgt := 37) x dX12_sum_59 rfl ?_
      exact z_sub [1, 3, 4, 5, 6, 7, 0] rfl (h37 (a1 + v48) a2 a3 a4 a6 a7 (a8 + (1 : Int32)))
def s_X12_sum_13 (E : zE) : Nat → Int32 → Option Nat → Int32 → Int32 → zM
  | 0, _, _, _, _ => zFail
  | n + 1, a1, a2, a3, a4 => if a3 ≤ a4 then (zRet (some (.int a1))) else (zGaR 7 a2 a4 (fun v22 => zLen v22 (fun v31 => s_X12_sum_37 E (s_X12_sum_13 E n) zN a1 a2 a3 a4 v22 v31 (0 : Int32))))
theorem w_X12_sum_13 (x : zCx p l R s m args meth c E D tA cX12_sum 10 yX12_sum.cls 9) (hl : l.stackTraces = false) (hret : meth.sig.returnType = (Option.some Jvm.ClassFile.FieldType.int)) (hnm : meth.name = yX12_sum.name) (htab : ∀ z ∈ c.exceptionTable.toList, False) : ∀ (n : Nat) (a1 : Int32) (a2 : Option Nat) (a3 : Int32) (a4 : Int32), zW p l e R s m args below meth c E D tA 10 k0 (s_X12_sum_13 E n a1 a2 a3 a4) [(1, zI a1), (2, zP a2), (3, zI a3), (4, zI a4)] 13 [] := by
  intro n
  induction n with
  | zero => intro a1 a2 a3 a4; exact z_fail
  | succ n h13 =>
    intro a1 a2 a3 a4
    rw [s_X12_sum_13]
    refine z_iload (pc := 13) x 3 dX12_sum_13 rfl ?_
    refine z_iload_n (pc := 15) x 2 dX12_sum_15 rfl rfl ?_
    refine z_icmp_ge (pc := 16) (tgt := 68) x dX12_sum_16 rfl (fun _ => ?_) (fun _ => ?_)
    · refine z_iload_n (pc := 68) x 0 dX12_sum_68 rfl rfl ?_
      exact z_iret (pc := 69) x hret dX12_sum_69
    · refine z_aload_n (pc := 19) x 1 dX12_sum_19 rfl rfl ?_
      refine z_iload (pc := 20) x 3 dX12_sum_20 rfl ?_
      refine z_aald (pc := 22) x (t := 7) rfl rfl dX12_sum_22 fun v22 => ?_
      refine z_astore (pc := 23) (lv' := [(5, zP v22), (1, zI a1), (2, zP a2), (3, zI a3), (4, zI a4)]) x dX12_sum_23 (Nat.le_of_ble_eq_true rfl) rfl ?_
      refine z_aload (pc := 25) x 0 dX12_sum_25 rfl ?_
      refine z_astore (pc := 27) (lv' := [(6, zP v22), (5, zP v22), (1, zI a1), (2, zP a2), (3, zI a3), (4, zI a4)]) x dX12_sum_27 (Nat.le_of_ble_eq_true rfl) rfl ?_
      refine z_aload (pc := 29) x 0 dX12_sum_29 rfl ?_
      refine z_len (pc := 31) x dX12_sum_31 fun v31 => ?_
      refine z_istore (pc := 32) (lv' := [(7, zI v31), (6, zP v22), (5, zP v22), (1, zI a1), (2, zP a2), (3, zI a3), (4, zI a4)]) x dX12_sum_32 (Nat.le_of_ble_eq_true rfl) rfl ?_
      refine z_iconst (pc := 34) x (v := (0 : Int32)) dX12_sum_34 rfl ?_
      refine z_istore (pc := 35) (lv' := [(8, zI (0 : Int32)), (7, zI v31), (6, zP v22), (5, zP v22), (1, zI a1), (2, zP a2), (3, zI a3), (4, zI a4)]) x dX12_sum_35 (Nat.le_of_ble_eq_true rfl) rfl ?_
      exact z_sub [4, 5, 6, 7, 2, 1, 0] rfl (w_X12_sum_37 x hl hret hnm htab h13 zN a1 a2 a3 a4 v22 v31 (0 : Int32))
def s_X12_sum (E : zE) (a0 : Option Nat) : zM := zGetR a0 18 1 (fun v3 => zLen v3 (fun v8 => s_X12_sum_13 E zN (0 : Int32) v3 v8 (0 : Int32)))
theorem m_X12_sum {l : Launch} {E : zE} {D : va_G} {tA : Nat → ClassId} (hl : l.stackTraces = false) (a0 : Option Nat) : zMet l E D tA yX12_sum (ws_ yX12_sum cX12_sum 10 (Option.some Jvm.ClassFile.FieldType.int)) 9 (s_X12_sum E a0) [zP a0] := by
  refine z_met hl (by decide +kernel) (by rw [zSl_len]; exact (Nat.le_of_ble_eq_true rfl)) fun p e R s m args below meth c k0 x hret hnm htab => ?_
  refine z_lv [(0, zP a0)] rfl ?_
  unfold s_X12_sum
  refine z_iconst (pc := 0) x (v := (0 : Int32)) dX12_sum_0 rfl ?_
  refine z_istore_n (pc := 1) (lv' := [(1, zI (0 : Int32)), (0, zP a0)]) x dX12_sum_1 rfl (Nat.le_of_ble_eq_true rfl) rfl ?_
  refine z_aload_n (pc := 2) x 1 dX12_sum_2 rfl rfl ?_
  refine z_get (pc := 3) (fun _ _ h => zAsR_eq h) x in_X12 (ci := 18) rfl (k := 1) (by decide) q999 (fun _ h => h) dX12_sum_3 fun v3 => ?_
  refine z_astore_n (pc := 6) (lv' := [(2, zP v3), (1, zI (0 : Int32)), (0, zP a0)]) x dX12_sum_6 rfl (Nat.le_of_ble_eq_true rfl) rfl ?_
  refine z_aload_n (pc := 7) x 0 dX12_sum_7 rfl rfl ?_
  refine z_len (pc := 8) x dX12_sum_8 fun v8 => ?_
  refine z_istore_n (pc := 9) (lv' := [(3, zI v8), (2, zP v3), (1, zI (0 : Int32)), (0, zP a0)]) x dX12_sum_9 rfl (Nat.le_of_ble_eq_true rfl) rfl ?_
  refine z_iconst (pc := 10) x (v := (0 : Int32)) dX12_sum_10 rfl ?_
  refine z_istore (pc := 11) (lv' := [(4, zI (0 : Int32)), (3, zI v8), (2, zP v3), (1, zI (0 : Int32)), (0, zP a0)]) x dX12_sum_11 (Nat.le_of_ble_eq_true rfl) rfl ?_
  exact z_sub [3, 2, 1, 0] rfl (w_X12_sum_13 x hl hret hnm htab zN (0 : Int32) v3 v8 (0 : Int32))
/-! X13_init -/
def s_X13_init (E : zE) (a0 : Option Nat) (a1 : Option Nat) : zM := zSet E a0 19 0 (zVal (zP a1)) (zC (zSp a0 (fun b => s_X10_init E (some b))) zThr (zKV (zRet none)))
theorem m_X13_init {l : Launch} {E : zE} {D : va_G} {tA : Nat → ClassId} (hl : l.stackTraces = false) (a0 : Option Nat) (a1 : Option Nat) : zMet l E D tA yX13_init (ws_ yX13_init cX13_init 2 (Option.none : Option Jvm.ClassFile.FieldType)) 10 (s_X13_init E a0 a1) [zP a0, zP a1] := by
  refine z_met hl (by decide +kernel) (by rw [zSl_len]; exact (Nat.le_of_ble_eq_true rfl)) fun p e R s m args below meth c k0 x hret hnm htab => ?_
  refine z_lv [(0, zP a0), (1, zP a1)] rfl ?_
  unfold s_X13_init
  refine z_aload_n (pc := 0) x 0 dX13_init_0 rfl rfl ?_
  refine z_aload_n (pc := 1) x 1 dX13_init_1 rfl rfl ?_
  refine z_setF (pc := 2) (v := zP a1) x in_X13 tyX13 tyX13_ok nmX13 (ci := 19) rfl (k := 0) (by decide) q1022 (fun _ h => h) rfl hnm rfl (zfitR rfl _).1 (zfitR rfl _).2 dX13_init_2 ?_
  refine z_aload_n (pc := 5) x 0 dX13_init_5 rfl rfl ?_
  refine z_call (pc := 6) (z_canIN (pc := 6) (ret := none) (As := []) (st := []) x (fun b => m_X10_init hl (some b)) q1021 rfl q907 q146 q908 n_X10_init ⟨by decide, by decide⟩ (Nat.le_of_ble_eq_true rfl) dX13_init_6) (zv_V ?_) (fun q => zx_thr x (fun z hz => (htab z hz).elim) q)
  exact z_vret (pc := 9) x hret dX13_init_9
/-! X12_takeAll -/
def s_X12_takeAll_13 (E : zE) : Nat → Option Nat → Option Nat → Option Nat → zM
  | 0, _, _, _ => zFail
  | n + 1, a0, a1, a2 => zC (zRv a2 [(11, fun b => s_J22_hasNext E (some b))]) zThr (zKI (fun v14 => if v14 = 0 then (zRet none) else (zC (zRv a2 [(11, fun b => s_J22_next E (some b))]) zThr (zKR (fun v23 => zCsS 31 v23 (zGetR a0 18 0 (fun v35 => zC (zRv v35 [(26, fun b => s_X2_facts E (some b))]) zThr (zKR (fun v38 => zC (zRv a1 [(17, fun b => s_X10_take E (some b) v23 v38), (19, fun b => s_X10_take E (some b) v23 v38), (20, fun b => s_X10_take E (some b) v23 v38), (21, fun b => s_X10_take E (some b) v23 v38), (25, fun b => s_X10_take E (some b) v23 v38)]) zThr (zKV ((s_X12_takeAll_13 E n) a0 a1 a2)))))))))))
theorem w_X12_takeAll_13 (x : zCx p l R s m args meth c E D tA cX12_takeAll 4 yX12_takeAll.cls 73) (hl : l.stackTraces = false) (hret : meth.sig.returnType = (Option.none : Option Jvm.ClassFile.FieldType)) (hnm : meth.name = yX12_takeAll.name) (htab : ∀ z ∈ c.exceptionTable.toList, False) : ∀ (n : Nat) (a0 : Option Nat) (a1 : Option Nat) (a2 : Option Nat), zW p l e R s m args below meth c E D tA 4 k0 (s_X12_takeAll_13 E n a0 a1 a2) [(0, zP a0), (1, zP a1), (2, zP a2)] 13 [] := by
  intro n
  induction n with
  | zero => intro a0 a1 a2; exact z_fail
  | succ n h13 =>
    intro a0 a1 a2
    rw [s_X12_takeAll_13]
    refine z_aload_n (pc := 13) x 2 dX12_takeAll_13 rfl rfl ?_
    refine z_call (pc := 14) (z_canIF (pc := 14) (As := []) (st := []) (x9 := ⟨"java/util/Iterator", "hasNext", "()Z"⟩) x (ci := 11) rfl (fun b => m_J22_hasNext hl (some b)) q957 q413 q412 (by decide) q415 q417 q418 q416 q414 q139 q419 nx_java_util_Iterator_hasNext___Z ⟨by decide, by decide⟩ (Nat.le_of_ble_eq_true rfl) dX12_takeAll_14) (zv_I fun v14 => ?_) (fun q => zx_thr x (fun z hz => (htab z hz).elim) q)
    refine z_if_eq (pc := 19) (tgt := 47) x dX12_takeAll_19 rfl (fun _ => ?_) (fun _ => ?_)
    · exact z_vret (pc := 47) x hret dX12_takeAll_47
    · refine z_aload_n (pc := 22) x 2 dX12_takeAll_22 rfl rfl ?_
      refine z_call (pc := 23) (z_canIF (pc := 23) (As := []) (st := []) (x9 := ⟨"java/util/Iterator", "next", "()Ljava/lang/Object;"⟩) x (ci := 11) rfl (fun b => m_J22_next hl (some b)) q959 q423 q422 (by decide) q424 q426 q427 q425 q414 q139 q428 nx_java_util_Iterator_next___Ljava_lang_Object_ ⟨by decide, by decide⟩ (Nat.le_of_ble_eq_true rfl) dX12_takeAll_23) (zv_R fun v23 => ?_) (fun q => zx_thr x (fun z hz => (htab z hz).elim) q)
      refine z_csS (pc := 28) x (ci := 31) rfl q1030 dX12_takeAll_28 ?_
      refine z_astore_n (pc := 31) (lv' := [(3, zP v23), (0, zP a0), (1, zP a1), (2, zP a2)]) x dX12_takeAll_31 rfl (Nat.le_of_ble_eq_true rfl) rfl ?_
      refine z_aload_n (pc := 32) x 2 dX12_takeAll_32 rfl rfl ?_
      refine z_aload_n (pc := 33) x 0 dX12_takeAll_33 rfl rfl ?_
      refine z_aload_n (pc := 34) x 1 dX12_takeAll_34 rfl rfl ?_
      refine z_get (pc := 35) (fun _ _ h => zAsR_eq h) x in_X12 (ci := 18) rfl (k := 0) (by decide) q998 (fun _ h => h) dX12_takeAll_35 fun v35 => ?_
      refine z_call (pc := 38) (z_canV (pc := 38) (As := []) (st := [zP v23, zP a1]) x (ci := 26) rfl (fun b => m_X2_facts hl (some b)) q1031 q369 (x.2.2.2.2.1 _ q370) q109 q371 n_X2_facts ⟨by decide, by decide⟩ (Nat.le_of_ble_eq_true rfl) dX12_takeAll_38) (zv_R fun v38 => ?_) (fun q => zx_thr x (fun z hz => (htab z hz).elim) q)
      refine z_call (pc := 41) (z_can_cons (z_canV (pc := 41) (As := [zP v23, zP v38]) (st := []) x (ci := 17) rfl (fun b => m_X10_take hl (some b) v23 v38) q1032 q935 (x.2.2.2.2.1 _ q3348) q146 q936 n_X10_take ⟨by decide, by decide⟩ (Nat.le_of_ble_eq_true rfl) dX12_takeAll_41) (z_can_cons (z_canV (pc := 41) (As := [zP v23, zP v38]) (st := []) x (ci := 19) rfl (fun b => m_X10_take hl (some b) v23 v38) q1032 q935 (x.2.2.2.2.1 _ q3344) q146 q936 n_X10_take ⟨by decide, by decide⟩ (Nat.le_of_ble_eq_true rfl) dX12_takeAll_41) (z_can_cons (z_canV (pc := 41) (As := [zP v23, zP v38]) (st := []) x (ci := 20) rfl (fun b => m_X10_take hl (some b) v23 v38) q1032 q935 (x.2.2.2.2.1 _ q3345) q146 q936 n_X10_take ⟨by decide, by decide⟩ (Nat.le_of_ble_eq_true rfl) dX12_takeAll_41) (z_can_cons (z_canV (pc := 41) (As := [zP v23, zP v38]) (st := []) x (ci := 21) rfl (fun b => m_X10_take hl (some b) v23 v38) q1032 q935 (x.2.2.2.2.1 _ q3346) q146 q936 n_X10_take ⟨by decide, by decide⟩ (Nat.le_of_ble_eq_true rfl) dX12_takeAll_41) (z_can_cons (z_canV (pc := 41) (As := [zP v23, zP v38]) (st := []) x (ci := 25) rfl (fun b => m_X10_take hl (some b) v23 v38) q1032 q935 (x.2.2.2.2.1 _ q3347) q146 q936 n_X10_take ⟨by decide, by decide⟩ (Nat.le_of_ble_eq_true rfl) dX12_takeAll_41) (z_can_nil)))))) (zv_V ?_) (fun q => zx_thr x (fun z hz => (htab z hz).elim) q)
      refine z_goto (pc := 44) (tgt := 13) x dX12_takeAll_44 rfl ?_
      exact z_sub [1, 2, 3] rfl (h13 a0 a1 a2)
def s_X12_takeAll (E : zE) (a0 : Option Nat) (a1 : Option Nat) : zM := zGetR a0 18 0 (fun v1 => zGetR v1 26 1 (fun v4 => zC (zRv v4 [(10, fun b => s_J2_iterator E (some b))]) zThr (zKR (fun v7 => s_X12_takeAll_13 E zN a0 a1 v7))))
theorem m_X12_takeAll {l : Launch} {E : zE} {D : va_G} {tA : Nat → ClassId} (hl : l.stackTraces = false) (a0 : Option Nat) (a1 : Option Nat) : zMet l E D tA yX12_takeAll (ws_ yX12_takeAll cX12_takeAll 4 (Option.none : Option Jvm.ClassFile.FieldType)) 73 (s_X12_takeAll E a0 a1) [zP a0, zP a1] := by
  refine z_met hl (by decide +kernel) (by rw [zSl_len]; exact (Nat.le_of_ble_eq_true rfl)) fun p e R s m args below meth c k0 x hret hnm htab => ?_
  refine z_lv [(0, zP a0), (1, zP a1)] rfl ?_
  unfold s_X12_takeAll
  refine z_aload_n (pc := 0) x 0 dX12_takeAll_0 rfl rfl ?_
  refine z_get (pc := 1) (fun _ _ h => zAsR_eq h) x in_X12 (ci := 18) rfl (k := 0) (by decide) q998 (fun _ h => h) dX12_takeAll_1 fun v1 => ?_
  refine z_getN (pc := 4) (fun _ _ h => zAsR_eq h) x in_X2 (ci := 26) rfl (k := 1) (by decide) q253 (fun _ h => h) dX12_takeAll_4 fun v4 => ?_
  refine z_call (pc := 7) (z_canIF (pc := 7) (As := []) (st := []) (x9 := ⟨"java/util/List", "iterator", "()Ljava/util/Iterator;"⟩) x (ci := 10) rfl (fun b => m_J2_iterator hl (some b)) q955 q383 q382 (by decide) q385 q387 q388 q386 q384 q112 q389 nx_java_util_List_iterator___Ljava_util_Iterator_ ⟨by decide, by decide⟩ (Nat.le_of_ble_eq_true rfl) dX12_takeAll_7) (zv_R fun v7 => ?_) (fun q => zx_thr x (fun z hz => (htab z hz).elim) q)
  refine z_astore_n (pc := 12) (lv' := [(2, zP v7), (0, zP a0), (1, zP a1)]) x dX12_takeAll_12 rfl (Nat.le_of_ble_eq_true rfl) rfl ?_
  exact z_sub [1, 2, 0] rfl (w_X12_takeAll_13 x hl hret hnm htab zN a0 a1 v7)
/-! X12_inRounds -/
def s_X12_inRounds_2 (E : zE) : Nat → Option Nat → Int32 → zM
  | 0, _, _ => zFail
  | n + 1, a0, a1 => zC (zRv a0 [(18, fun b => s_X12_sum E (some b))]) zThr (zKI (fun v3 => if v3 = a1 then (zRet (some (va_rf a0))) else (zC (zRv a0 [(18, fun b => s_X12_sum E (some b))]) zThr (zKI (fun v11 => zNew 19 1 [.null] (fun v16 => zC (zSp v16 (fun b => s_X13_init E (some b) a0)) zThr (zKV (zC (zRv a0 [(18, fun b => s_X12_takeAll E (some b) v16)]) zThr (zKV ((s_X12_inRounds_2 E n) a0 v11))))))))))
theorem w_X12_inRounds_2 (x : zCx p l R s m args meth c E D tA cX12_inRounds 2 yX12_inRounds.cls 74) (hl : l.stackTraces = false) (hret : meth.sig.returnType = (Option.some (Jvm.ClassFile.FieldType.object "BrambleLogic$Heights"))) (hnm : meth.name = yX12_inRounds.name) (htab : ∀ z ∈ c.exceptionTable.toList, False) : ∀ (n : Nat) (a0 : Option Nat) (a1 : Int32), zW p l e R s m args below meth c E D tA 2 k0 (s_X12_inRounds_2 E n a0 a1) [(0, zP a0), (1, zI a1)] 2 [] := by
  intro n
  induction n with
  | zero => intro a0 a1; exact z_fail
  | succ n h2 =>
    intro a0 a1
    rw [s_X12_inRounds_2]
    refine z_aload_n (pc := 2) x 0 dX12_inRounds_2 rfl rfl ?_
    refine z_call (pc := 3) (z_canV (pc := 3) (As := []) (st := []) x (ci := 18) rfl (fun b => m_X12_sum hl (some b)) q1012 q1014 (z_selP x (ci := 18) rfl (by decide) (zNi_inst x q952) q1013 q1014) q148 q1015 n_X12_sum ⟨by decide, by decide⟩ (Nat.le_of_ble_eq_true rfl) dX12_inRounds_3) (zv_I fun v3 => ?_) (fun q => zx_thr x (fun z hz => (htab z hz).elim) q)
    refine z_iload_n (pc := 6) x 1 dX12_inRounds_6 rfl rfl ?_
    refine z_icmp_eq (pc := 7) (tgt := 30) x dX12_inRounds_7 rfl (fun _ => ?_) (fun _ => ?_)
    · refine z_aload_n (pc := 30) x 0 dX12_inRounds_30 rfl rfl ?_
      exact z_aret (pc := 31) x hret (Or.inl ⟨_, rfl⟩) dX12_inRounds_31
    · refine z_aload_n (pc := 10) x 0 dX12_inRounds_10 rfl rfl ?_
      refine z_call (pc := 11) (z_canV (pc := 11) (As := []) (st := []) x (ci := 18) rfl (fun b => m_X12_sum hl (some b)) q1012 q1014 (z_selP x (ci := 18) rfl (by decide) (zNi_inst x q952) q1013 q1014) q148 q1015 n_X12_sum ⟨by decide, by decide⟩ (Nat.le_of_ble_eq_true rfl) dX12_inRounds_11) (zv_I fun v11 => ?_) (fun q => zx_thr x (fun z hz => (htab z hz).elim) q)
      refine z_istore_n (pc := 14) (lv' := [(1, zI v11), (0, zP a0)]) x dX12_inRounds_14 rfl (Nat.le_of_ble_eq_true rfl) rfl ?_
      refine z_aload_n (pc := 15) x 1 dX12_inRounds_15 rfl rfl ?_
      refine z_new (pc := 16) x in_X13 tyX13 tyX13_ok q1016 q1017 q149 (ci := 19) rfl (by decide) (by decide +kernel) dX12_inRounds_16 fun v16 => ?_
      refine z_dup (pc := 19) x dX12_inRounds_19 rfl ?_
      refine z_aload_n (pc := 20) x 1 dX12_inRounds_20 rfl rfl ?_
      refine z_call (pc := 21) (z_canI (pc := 21) (ret := none) (As := [zP a0]) (st := [zP v16, zP a0]) x (fun b => m_X13_init hl (some b) a0) q1018 rfl q1019 q149 q1020 n_X13_init ⟨by decide, by decide⟩ (Nat.le_of_ble_eq_true rfl) dX12_inRounds_21) (zv_V ?_) (fun q => zx_thr x (fun z hz => (htab z hz).elim) q)
      refine z_call (pc := 24) (z_canV (pc := 24) (As := [zP v16]) (st := []) x (ci := 18) rfl (fun b => m_X12_takeAll hl (some b) v16) q1026 q1028 (z_selP x (ci := 18) rfl (by decide) (zNi_inst x q952) q1027 q1028) q148 q1029 n_X12_takeAll ⟨by decide, by decide⟩ (Nat.le_of_ble_eq_true rfl) dX12_inRounds_24) (zv_V ?_) (fun q => zx_thr x (fun z hz => (htab z hz).elim) q)
      refine z_goto (pc := 27) (tgt := 2) x dX12_inRounds_27 rfl ?_
      exact z_sub [1, 0] rfl (h2 a0 v11)
def s_X12_inRounds (E : zE) (a0 : Option Nat) : zM := s_X12_inRounds_2 E zN a0 (-1 : Int32)
theorem m_X12_inRounds {l : Launch} {E : zE} {D : va_G} {tA : Nat → ClassId} (hl : l.stackTraces = false) (a0 : Option Nat) : zMet l E D tA yX12_inRounds (ws_ yX12_inRounds cX12_inRounds 2 (Option.some (Jvm.ClassFile.FieldType.object "BrambleLogic$Heights"))) 74 (s_X12_inRounds E a0) [zP a0] := by
  refine z_met hl (by decide +kernel) (by rw [zSl_len]; exact (Nat.le_of_ble_eq_true rfl)) fun p e R s m args below meth c k0 x hret hnm htab => ?_
  refine z_lv [(0, zP a0)] rfl ?_
  unfold s_X12_inRounds
  refine z_iconst (pc := 0) x (v := (-1 : Int32)) dX12_inRounds_0 rfl ?_
  refine z_istore_n (pc := 1) (lv' := [(1, zI (-1 : Int32)), (0, zP a0)]) x dX12_inRounds_1 rfl (Nat.le_of_ble_eq_true rfl) rfl ?_
  exact z_sub [1, 0] rfl (w_X12_inRounds_2 x hl hret hnm htab zN a0 (-1 : Int32))
/-! X1_height -/
def s_X1_height (E : zE) (a0 : Option Nat) (a1 : Int32) (a2 : Int32) (a3 : Int32) : zM := zC (zRv a0 [(16, fun b => s_X1_requireTrue E (some b) a1 a2 a3)]) zThr (zKI (fun v4 => zNew 18 2 [.null, .null] (fun v9 => zGetR a0 16 0 (fun v14 => zC (zSp v9 (fun b => s_X12_init E (some b) v14)) zThr (zKV (zC (zRv v9 [(18, fun b => s_X12_inRounds E (some b))]) zThr (zKR (fun v20 => zGetR v20 18 1 (fun v23 => zGaR 7 v23 (a1 - (97 : Int32)) (fun v30 => zGaI 0 v30 v4 (fun v33 => zRet (some (.int v33)))))))))))))
theorem m_X1_height {l : Launch} {E : zE} {D : va_G} {tA : Nat → ClassId} (hl : l.stackTraces = false) (a0 : Option Nat) (a1 : Int32) (a2 : Int32) (a3 : Int32) : zMet l E D tA yX1_height (ws_ yX1_height cX1_height 5 (Option.some Jvm.ClassFile.FieldType.int)) 75 (s_X1_height E a0 a1 a2 a3) [zP a0, zI a1, zI a2, zI a3] := by
  refine z_met hl (by decide +kernel) (by rw [zSl_len]; exact (Nat.le_of_ble_eq_true rfl)) fun p e R s m args below meth c k0 x hret hnm htab => ?_
  refine z_lv [(0, zP a0), (1, zI a1), (2, zI a2), (3, zI a3)] rfl ?_
  unfold s_X1_height
  refine z_aload_n (pc := 0) x 0 dX1_height_0 rfl rfl ?_
  refine z_iload_n (pc := 1) x 1 dX1_height_1 rfl rfl ?_
  refine z_iload_n (pc := 2) x 2 dX1_height_2 rfl rfl ?_
  refine z_iload_n (pc := 3) x 3 dX1_height_3 rfl rfl ?_
  refine z_call (pc := 4) (z_canV (pc := 4) (As := [zI a1, zI a2, zI a3]) (st := []) x (ci := 16) rfl (fun b => m_X1_requireTrue hl (some b) a1 a2 a3) q1813 q1815 (z_selP x (ci := 16) rfl (by decide) (zNi_inst x q168) q1814 q1815) q108 q1816 n_X1_requireTrue ⟨by decide, by decide⟩ (Nat.le_of_ble_eq_true rfl) dX1_height_4) (zv_I fun v4 => ?_) (fun q => zx_thr x (fun z hz => (htab z hz).elim) q)
  refine z_istore (pc := 7) (lv' := [(4, zI v4), (0, zP a0), (1, zI a1), (2, zI a2), (3, zI a3)]) x dX1_height_7 (Nat.le_of_ble_eq_true rfl) rfl ?_
  refine z_new (pc := 9) x in_X12 tyX12 tyX12_ok q1821 q952 q148 (ci := 18) rfl (by decide) (by decide +kernel) dX1_height_9 fun v9 => ?_
  refine z_dup (pc := 12) x dX1_height_12 rfl ?_
  refine z_aload_n (pc := 13) x 1 dX1_height_13 rfl rfl ?_
  refine z_get (pc := 14) (fun _ _ h => zAsR_eq h) x in_X1 (ci := 16) rfl (k := 0) (by decide) q320 (fun _ h => h) dX1_height_14 fun v14 => ?_
  refine z_call (pc := 17) (z_canI (pc := 17) (ret := none) (As := [zP v14]) (st := [zP v9]) x (fun b => m_X12_init hl (some b) v14) q1822 rfl q992 q148 q993 n_X12_init ⟨by decide, by decide⟩ (Nat.le_of_ble_eq_true rfl) dX1_height_17) (zv_V ?_) (fun q => zx_thr x (fun z hz => (htab z hz).elim) q)
  refine z_call (pc := 20) (z_canV (pc := 20) (As := []) (st := []) x (ci := 18) rfl (fun b => m_X12_inRounds hl (some b)) q1823 q1009 (x.2.2.2.2.1 _ q1010) q148 q1011 n_X12_inRounds ⟨by decide, by decide⟩ (Nat.le_of_ble_eq_true rfl) dX1_height_20) (zv_R fun v20 => ?_) (fun q => zx_thr x (fun z hz => (htab z hz).elim) q)
  refine z_getN (pc := 23) (fun _ _ h => zAsR_eq h) x in_X12 (ci := 18) rfl (k := 1) (by decide) q1002 (fun _ h => h) dX1_height_23 fun v23 => ?_
  refine z_iload_n (pc := 26) x 2 dX1_height_26 rfl rfl ?_
  refine z_bipush (pc := 27) x (v := (97 : Int32)) dX1_height_27 rfl ?_
  refine z_isub (pc := 29) x dX1_height_29 ?_
  refine z_aald (pc := 30) x (t := 7) rfl rfl dX1_height_30 fun v30 => ?_
  refine z_iload (pc := 31) x 0 dX1_height_31 rfl ?_
  refine z_iald (pc := 33) x (t := 0) rfl dX1_height_33 fun v33 => ?_
  exact z_iret (pc := 34) x hret dX1_height_34
/-! X0_height -/
def s_X0_height_15 (E : zE) (b0 : Option Nat) : zM := zRet (some (.int (1 : Int32)))
theorem w_X0_height_15 (x : zCx p l R s m args meth c E D tA cX0_height 6 yX0_height.cls 76) (hl : l.stackTraces = false) (hret : meth.sig.returnType = (Option.some Jvm.ClassFile.FieldType.int)) (hnm : meth.name = yX0_height.name) (htab : c.exceptionTable.toList = tableOf [(0, 12, 15, 13), (0, 12, 19, 22)]) (b0 : Option Nat) : zW p l e R s m args below meth c E D tA 6 k0 (s_X0_height_15 E b0) [] 15 [zP b0] := by
  unfold s_X0_height_15
  refine z_astore (pc := 15) (lv' := [(5, zP b0)]) x dX0_height_15 (Nat.le_of_ble_eq_true rfl) rfl ?_
  refine z_iconst (pc := 17) x (v := (1 : Int32)) dX0_height_17 rfl ?_
  exact z_iret (pc := 18) x hret dX0_height_18
def s_X0_height_19 (E : zE) (b0 : Option Nat) : zM := zRet (some (.int (2 : Int32)))
theorem w_X0_height_19 (x : zCx p l R s m args meth c E D tA cX0_height 6 yX0_height.cls 76) (hl : l.stackTraces = false) (hret : meth.sig.returnType = (Option.some Jvm.ClassFile.FieldType.int)) (hnm : meth.name = yX0_height.name) (htab : c.exceptionTable.toList = tableOf [(0, 12, 15, 13), (0, 12, 19, 22)]) (b0 : Option Nat) : zW p l e R s m args below meth c E D tA 6 k0 (s_X0_height_19 E b0) [] 19 [zP b0] := by
  unfold s_X0_height_19
  refine z_astore (pc := 19) (lv' := [(5, zP b0)]) x dX0_height_19 (Nat.le_of_ble_eq_true rfl) rfl ?_
  refine z_iconst (pc := 21) x (v := (2 : Int32)) dX0_height_21 rfl ?_
  exact z_iret (pc := 22) x hret dX0_height_22
def s_X0_height (E : zE) (a0 : Option Nat) (a1 : Int32) (a2 : Int32) (a3 : Int32) (a4 : Option Nat) : zM := zC (zRv a0 [(16, fun b => s_X1_height E (some b) a1 a2 a3)]) (fun q => zCat1 q [(0, s_X0_height_15 E (some q)), (6, s_X0_height_19 E (some q))]) (zKI (fun v7 => zSaL E 3 a4 (0 : Int32) ((v7).toInt64) (zRet (some (.int (0 : Int32))))))
theorem m_X0_height {l : Launch} {E : zE} {D : va_G} {tA : Nat → ClassId} (hl : l.stackTraces = false) (a0 : Option Nat) (a1 : Int32) (a2 : Int32) (a3 : Int32) (a4 : Option Nat) : zMet l E D tA yX0_height (wsW_ yX0_height cX0_height 6 (Option.some Jvm.ClassFile.FieldType.int) [(0, 12, 15, 13), (0, 12, 19, 22)]) 76 (s_X0_height E a0 a1 a2 a3 a4) [zP a0, zI a1, zI a2, zI a3, zP a4] := by
  refine z_metW hl (by decide +kernel) (by rw [zSl_len]; exact (Nat.le_of_ble_eq_true rfl)) fun p e R s m args below meth c k0 x hret hnm htab => ?_
  refine z_lv [(0, zP a0), (1, zI a1), (2, zI a2), (3, zI a3), (4, zP a4)] rfl ?_
  unfold s_X0_height
  refine z_aload (pc := 0) x 4 dX0_height_0 rfl ?_
  refine z_iconst (pc := 2) x (v := (0 : Int32)) dX0_height_2 rfl ?_
  refine z_aload_n (pc := 3) x 0 dX0_height_3 rfl rfl ?_
  refine z_iload_n (pc := 4) x 1 dX0_height_4 rfl rfl ?_
  refine z_iload_n (pc := 5) x 2 dX0_height_5 rfl rfl ?_
  refine z_iload_n (pc := 6) x 3 dX0_height_6 rfl rfl ?_
  refine z_call (pc := 7) (z_canV (pc := 7) (As := [zI a1, zI a2, zI a3]) (st := [zI (0 : Int32), zP a4]) x (ci := 16) rfl (fun b => m_X1_height hl (some b) a1 a2 a3) q1809 q1810 (x.2.2.2.2.1 _ q1811) q108 q1812 n_X1_height ⟨by decide, by decide⟩ (Nat.le_of_ble_eq_true rfl) dX0_height_7) (zv_I fun v7 => ?_) (fun q => zx_cat x [(0, s_X0_height_15 E (some q), ⟨0, 12, 15, 13⟩), (6, s_X0_height_19 E (some q), ⟨0, 12, 19, 22⟩)] htab (List.forall_mem_cons.mpr ⟨⟨rfl, (show (13 : Nat) ≠ 0 by decide), q1462, z_sub [] rfl (w_X0_height_15 x hl hret hnm htab (some q))⟩, (List.forall_mem_cons.mpr ⟨⟨rfl, (show (22 : Nat) ≠ 0 by decide), q1642, z_sub [] rfl (w_X0_height_19 x hl hret hnm htab (some q))⟩, (fun _ hj => nomatch hj)⟩)⟩))
  refine z_i2l (pc := 10) x dX0_height_10 ?_
  refine z_last (pc := 11) x (t := 3) rfl dX0_height_11 ?_
  refine z_goto (pc := 12) (tgt := 23) x dX0_height_12 rfl ?_
  refine z_iconst (pc := 23) x (v := (0 : Int32)) dX0_height_23 rfl ?_
  exact z_iret (pc := 24) x hret dX0_height_24
/-! X12_hasOpen -/
def s_X12_hasOpen_53 (E : zE) (k4 : Option Nat → Int32 → Int32 → zM) (k12 : Option Nat → Int32 → Int32 → Int32 → zM) (a0 : Option Nat) (a2 : Int32) (a3 : Int32) (b0 : Int32) (b1 : Int32) : zM := k12 a0 (b0 ||| b1) a2 (a3 + (1 : Int32))
theorem w_X12_hasOpen_53 (x : zCx p l R s m args meth c E D tA cX12_hasOpen 4 yX12_hasOpen.cls 73) (hl : l.stackTraces = false) (hret : meth.sig.returnType = (Option.some Jvm.ClassFile.FieldType.boolean)) (hnm : meth.name = yX12_hasOpen.name) (htab : ∀ z ∈ c.exceptionTable.toList, False) {k4 : Option Nat → Int32 → Int32 → zM} (h4 : ∀ (a0 : Option Nat) (a1 : Int32) (a2 : Int32) , zW p l e R s m args below meth c E D tA 4 k0 (k4 a0 a1 a2) [(0, zP a0), (1, zI a1), (2, zI a2)] 4 []) {k12 : Option Nat → Int32 → Int32 → Int32 → zM} (h12 : ∀ (a0 : Option Nat) (a1 : Int32) (a2 : Int32) (a3 : Int32) , zW p l e R s m args below meth c E D tA 4 k0 (k12 a0 a1 a2 a3) [(0, zP a0), (1, zI a1), (2, zI a2), (3, zI a3)] 12 []) (a0 : Option Nat) (a2 : Int32) (a3 : Int32) (b0 : Int32) (b1 : Int32) : zW p l e R s m args below meth c E D tA 4 k0 (s_X12_hasOpen_53 E k4 k12 a0 a2 a3 b0 b1) [(0, zP a0), (2, zI a2), (3, zI a3)] 53 [zI b1, zI b0] := by
  unfold s_X12_hasOpen_53
  refine z_ior (pc := 53) x dX12_hasOpen_53 ?_
  refine z_istore_n (pc := 54) (lv' := [(1, zI (b0 ||| b1)), (0, zP a0), (2, zI a2), (3, zI a3)]) x dX12_hasOpen_54 rfl (Nat.le_of_ble_eq_true rfl) rfl ?_
  refine z_iinc (pc := 55) (lv' := [(3, zI (a3 + (1 : Int32))), (1, zI (b0 ||| b1)), (0, zP a0), (2, zI a2)]) x (v2 := (a3 + (1 : Int32))) 3 dX12_hasOpen_55 rfl rfl (Nat.le_of_ble_eq_true rfl) rfl ?_
  refine z_goto (pc := 58) (tgt := 12) x dX12_hasOpen_58 rfl ?_
  exact z_sub [2, 1, 3, 0] rfl (h12 a0 (b0 ||| b1) a2 (a3 + (1 : Int32)))
def s_X12_hasOpen_52 (E : zE) (k4 : Option Nat → Int32 → Int32 → zM) (k12 : Option Nat → Int32 → Int32 → Int32 → zM) (a0 : Option Nat) (a2 : Int32) (a3 : Int32) (b0 : Int32) : zM := s_X12_hasOpen_53 E k4 k12 a0 a2 a3 b0 (0 : Int32)
theorem w_X12_hasOpen_52 (x : zCx p l R s m args meth c E D tA cX12_hasOpen 4 yX12_hasOpen.cls 73) (hl : l.stackTraces = false) (hret : meth.sig.returnType = (Option.some Jvm.ClassFile.FieldType.boolean)) (hnm : meth.name = yX12_hasOpen.name) (htab : ∀ z ∈ c.exceptionTable.toList, False) {k4 : Option Nat → Int32 → Int32 → zM} (h4 : ∀ (a0 : Option Nat) (a1 : Int32) (a2 : Int32) , zW p l e R s m args below meth c E D tA 4 k0 (k4 a0 a1 a2) [(0, zP a0), (1, zI a1), (2, zI a2)] 4 []) {k12 : Option Nat → Int32 → Int32 → Int32 → zM} (h12 : ∀ (a0 : Option Nat) (a1 : Int32) (a2 : Int32) (a3 : Int32) , zW p l e R s m args below meth c E D tA 4 k0 (k12 a0 a1 a2 a3) [(0, zP a0), (1, zI a1), (2, zI a2), (3, zI a3)] 12 []) (a0 : Option Nat) (a2 : Int32) (a3 : Int32) (b0 : Int32) : zW p l e R s m args below meth c E D tA 4 k0 (s_X12_hasOpen_52 E k4 k12 a0 a2 a3 b0) [(0, zP a0), (2, zI a2), (3, zI a3)] 52 [zI b0] := by
  unfold s_X12_hasOpen_52
  refine z_iconst (pc := 52) x (v := (0 : Int32)) dX12_hasOpen_52 rfl ?_
  exact z_sub [0, 1, 2] rfl (w_X12_hasOpen_53 x hl hret hnm htab h4 h12 a0 a2 a3 b0 (0 : Int32))
def s_X12_hasOpen_12 (E : zE) (k4 : Option Nat → Int32 → Int32 → zM) : Nat → Option Nat → Int32 → Int32 → Int32 → zM
  | 0, _, _, _, _ => zFail
  | n + 1, a0, a1, a2, a3 => if (100 : Int32) ≤ a3 then (k4 a0 a1 (a2 + (1 : Int32))) else (zGetR a0 18 0 (fun v20 => zC (zRv v20 [(26, fun b => s_X2_facts E (some b))]) zThr (zKR (fun v23 => zC (zRv v23 [(32, fun b => s_X4_has E (some b) a2 a3)]) zThr (zKI (fun v28 => if v28 = 0 then (s_X12_hasOpen_52 E k4 (s_X12_hasOpen_12 E k4 n) a0 a2 a3 a1) else (zGetR a0 18 1 (fun v35 => zGaR 7 v35 a2 (fun v39 => zGaI 0 v39 a3 (fun v41 => if v41 = (1000 : Int32) then (s_X12_hasOpen_53 E k4 (s_X12_hasOpen_12 E k4 n) a0 a2 a3 a1 (1 : Int32)) else (s_X12_hasOpen_52 E k4 (s_X12_hasOpen_12 E k4 n) a0 a2 a3 a1)))))))))))
theorem w_X12_hasOpen_12 (x : zCx p l R s m args meth c E D tA cX12_hasOpen 4 yX12_hasOpen.cls 73) (hl : l.stackTraces = false) (hret : meth.sig.returnType = (Option.some Jvm.ClassFile.FieldType.boolean)) (hnm : meth.name = yX12_hasOpen.name) (htab : ∀ z ∈ c.exceptionTable.toList, False) {k4 : Option Nat → Int32 → Int32 → zM} (h4 : ∀ (a0 : Option Nat) (a1 : Int32) (a2 : Int32) , zW p l e R s m args below meth c E D tA 4 k0 (k4 a0 a1 a2) [(0, zP a0), (1, zI a1), (2, zI a2)] 4 []) : ∀ (n : Nat) (a0 : Option Nat) (a1 : Int32) (a2 : Int32) (a3 : Int32), zW p l e R s m args below meth c E D tA 4 k0 (s_X12_hasOpen_12 E k4 n a0 a1 a2 a3) [(0, zP a0), (1, zI a1), (2, zI a2), (3, zI a3)] 12 [] := by
  intro n
  induction n with
  | zero => intro a0 a1 a2 a3; exact z_fail
  | succ n h12 =>
    intro a0 a1 a2 a3
    rw [s_X12_hasOpen_12]
    refine z_iload_n (pc := 12) x 3 dX12_hasOpen_12 rfl rfl ?_
    refine z_bipush (pc := 13) x (v := (100 : Int32)) dX12_hasOpen_13 rfl ?_
    refine z_icmp_ge (pc := 15) (tgt := 61) x dX12_hasOpen_15 rfl (fun _ => ?_) (fun _ => ?_)
    · refine z_iinc (pc := 61) (lv' := [(2, zI (a2 + (1 : Int32))), (0, zP a0), (1, zI a1), (3, zI a3)]) x (v2 := (a2 + (1 : Int32))) 2 dX12_hasOpen_61 rfl rfl (Nat.le_of_ble_eq_true rfl) rfl ?_
      refine z_goto (pc := 64) (tgt := 4) x dX12_hasOpen_64 rfl ?_
      exact z_sub [1, 2, 0] rfl (h4 a0 a1 (a2 + (1 : Int32)))
    · refine z_iload_n (pc := 18) x 1 dX12_hasOpen_18 rfl rfl ?_
      refine z_aload_n (pc := 19) x 0 dX12_hasOpen_19 rfl rfl ?_
      refine z_get (pc := 20) (fun _ _ h => zAsR_eq h) x in_X12 (ci := 18) rfl (k := 0) (by decide) q998 (fun _ h => h) dX12_hasOpen_20 fun v20 => ?_
      refine z_call (pc := 23) (z_canV (pc := 23) (As := []) (st := [zI a1]) x (ci := 26) rfl (fun b => m_X2_facts hl (some b)) q1031 q369 (x.2.2.2.2.1 _ q370) q109 q371 n_X2_facts ⟨by decide, by decide⟩ (Nat.le_of_ble_eq_true rfl) dX12_hasOpen_23) (zv_R fun v23 => ?_) (fun q => zx_thr x (fun z hz => (htab z hz).elim) q)
      refine z_iload_n (pc := 26) x 2 dX12_hasOpen_26 rfl rfl ?_
      refine z_iload_n (pc := 27) x 3 dX12_hasOpen_27 rfl rfl ?_
      refine z_call (pc := 28) (z_canV (pc := 28) (As := [zI a2, zI a3]) (st := [zI a1]) x (ci := 32) rfl (fun b => m_X4_has hl (some b) a2 a3) q997 q814 (x.2.2.2.2.1 _ q815) q114 q816 n_X4_has ⟨by decide, by decide⟩ (Nat.le_of_ble_eq_true rfl) dX12_hasOpen_28) (zv_I fun v28 => ?_) (fun q => zx_thr x (fun z hz => (htab z hz).elim) q)
      refine z_if_eq (pc := 31) (tgt := 52) x dX12_hasOpen_31 rfl (fun _ => ?_) (fun _ => ?_)
      · exact z_sub [0, 2, 3] rfl (w_X12_hasOpen_52 x hl hret hnm htab h4 h12 a0 a2 a3 a1)
      · refine z_aload_n (pc := 34) x 0 dX12_hasOpen_34 rfl rfl ?_
        refine z_get (pc := 35) (fun _ _ h => zAsR_eq h) x in_X12 (ci := 18) rfl (k := 1) (by decide) q999 (fun _ h => h) dX12_hasOpen_35 fun v35 => ?_
        refine z_iload_n (pc := 38) x 2 dX12_hasOpen_38 rfl rfl ?_
        refine z_aald (pc := 39) x (t := 7) rfl rfl dX12_hasOpen_39 fun v39 => ?_
        refine z_iload_n (pc := 40) x 3 dX12_hasOpen_40 rfl rfl ?_
        refine z_iald (pc := 41) x (t := 0) rfl dX12_hasOpen_41 fun v41 => ?_
        refine z_sipush (pc := 42) x (v := (1000 : Int32)) dX12_hasOpen_42 rfl ?_
        refine z_icmp_ne (pc := 45) (tgt := 52) x dX12_hasOpen_45 rfl (fun _ => ?_) (fun _ => ?_)
        · refine z_iconst (pc := 48) x (v := (1 : Int32)) dX12_hasOpen_48 rfl ?_
          refine z_goto (pc := 49) (tgt := 53) x dX12_hasOpen_49 rfl ?_
          exact z_sub [0, 2, 3] rfl (w_X12_hasOpen_53 x hl hret hnm htab h4 h12 a0 a2 a3 a1 (1 : Int32))
        · exact z_sub [0, 2, 3] rfl (w_X12_hasOpen_52 x hl hret hnm htab h4 h12 a0 a2 a3 a1)
def s_X12_hasOpen_4 (E : zE) : Nat → Option Nat → Int32 → Int32 → zM
  | 0, _, _, _ => zFail
  | n + 1, a0, a1, a2 => if (8 : Int32) ≤ a2 then (zRetN .boolean a1) else (s_X12_hasOpen_12 E (s_X12_hasOpen_4 E n) zN a0 a1 a2 (0 : Int32))
theorem w_X12_hasOpen_4 (x : zCx p l R s m args meth c E D tA cX12_hasOpen 4 yX12_hasOpen.cls 73) (hl : l.stackTraces = false) (hret : meth.sig.returnType = (Option.some Jvm.ClassFile.FieldType.boolean)) (hnm : meth.name = yX12_hasOpen.name) (htab : ∀ z ∈ c.exceptionTable.toList, False) : ∀ (n : Nat) (a0 : Option Nat) (a1 : Int32) (a2 : Int32), zW p l e R s m args below meth c E D tA 4 k0 (s_X12_hasOpen_4 E n a0 a1 a2) [(0, zP a0), (1, zI a1), (2, zI a2)] 4 [] := by
  intro n
  induction n with
  | zero => intro a0 a1 a2; exact z_fail
  | succ n h4 =>
    intro a0 a1 a2
    rw [s_X12_hasOpen_4]
    refine z_iload_n (pc := 4) x 2 dX12_hasOpen_4 rfl rfl ?_
    refine z_bipush (pc := 5) x (v := (8 : Int32)) dX12_hasOpen_5 rfl ?_
    refine z_icmp_ge (pc := 7) (tgt := 67) x dX12_hasOpen_7 rfl (fun _ => ?_) (fun _ => ?_)
    · refine z_iload_n (pc := 67) x 1 dX12_hasOpen_67 rfl rfl ?_
      exact z_zret (pc := 68) x hret dX12_hasOpen_68
    · refine z_iconst (pc := 10) x (v := (0 : Int32)) dX12_hasOpen_10 rfl ?_
      refine z_istore_n (pc := 11) (lv' := [(3, zI (0 : Int32)), (0, zP a0), (1, zI a1), (2, zI a2)]) x dX12_hasOpen_11 rfl (Nat.le_of_ble_eq_true rfl) rfl ?_
      exact z_sub [1, 2, 3, 0] rfl (w_X12_hasOpen_12 x hl hret hnm htab h4 zN a0 a1 a2 (0 : Int32))
def s_X12_hasOpen (E : zE) (a0 : Option Nat) : zM := s_X12_hasOpen_4 E zN a0 (0 : Int32) (0 : Int32)
theorem m_X12_hasOpen {l : Launch} {E : zE} {D : va_G} {tA : Nat → ClassId} (hl : l.stackTraces = false) (a0 : Option Nat) : zMet l E D tA yX12_hasOpen (ws_ yX12_hasOpen cX12_hasOpen 4 (Option.some Jvm.ClassFile.FieldType.boolean)) 73 (s_X12_hasOpen E a0) [zP a0] := by
  refine z_met hl (by decide +kernel) (by rw [zSl_len]; exact (Nat.le_of_ble_eq_true rfl)) fun p e R s m args below meth c k0 x hret hnm htab => ?_
  refine z_lv [(0, zP a0)] rfl ?_
  unfold s_X12_hasOpen
  refine z_iconst (pc := 0) x (v := (0 : Int32)) dX12_hasOpen_0 rfl ?_
  refine z_istore_n (pc := 1) (lv' := [(1, zI (0 : Int32)), (0, zP a0)]) x dX12_hasOpen_1 rfl (Nat.le_of_ble_eq_true rfl) rfl ?_
  refine z_iconst (pc := 2) x (v := (0 : Int32)) dX12_hasOpen_2 rfl ?_
  refine z_istore_n (pc := 3) (lv' := [(2, zI (0 : Int32)), (1, zI (0 : Int32)), (0, zP a0)]) x dX12_hasOpen_3 rfl (Nat.le_of_ble_eq_true rfl) rfl ?_
  exact z_sub [2, 1, 0] rfl (w_X12_hasOpen_4 x hl hret hnm htab zN a0 (0 : Int32) (0 : Int32))
/-! X14_init -/
def s_X14_init (E : zE) (a0 : Option Nat) (a1 : Option Nat) (a2 : Int32) : zM := zSet E a0 20 1 (zVal (zP a1)) (zSet E a0 20 0 (zVal (zI a2)) (zC (zSp a0 (fun b => s_X10_init E (some b))) zThr (zKV (zRet none))))
theorem m_X14_init {l : Launch} {E : zE} {D : va_G} {tA : Nat → ClassId} (hl : l.stackTraces = false) (a0 : Option Nat) (a1 : Option Nat) (a2 : Int32) : zMet l E D tA yX14_init (ws_ yX14_init cX14_init 3 (Option.none : Option Jvm.ClassFile.FieldType)) 10 (s_X14_init E a0 a1 a2) [zP a0, zP a1, zI a2] := by
  refine z_met hl (by decide +kernel) (by rw [zSl_len]; exact (Nat.le_of_ble_eq_true rfl)) fun p e R s m args below meth c k0 x hret hnm htab => ?_
  refine z_lv [(0, zP a0), (1, zP a1), (2, zI a2)] rfl ?_
  unfold s_X14_init
  refine z_aload_n (pc := 0) x 0 dX14_init_0 rfl rfl ?_
  refine z_aload_n (pc := 1) x 1 dX14_init_1 rfl rfl ?_
  refine z_setF (pc := 2) (v := zP a1) x in_X14 tyX14 tyX14_ok nmX14 (ci := 20) rfl (k := 1) (by decide) q1048 (fun _ h => h) rfl hnm rfl (zfitR rfl _).1 (zfitR rfl _).2 dX14_init_2 ?_
  refine z_aload_n (pc := 5) x 0 dX14_init_5 rfl rfl ?_
  refine z_iload_n (pc := 6) x 2 dX14_init_6 rfl rfl ?_
  refine z_setF (pc := 7) (v := zI a2) x in_X14 tyX14 tyX14_ok nmX14 (ci := 20) rfl (k := 0) (by decide) q1047 (fun _ h => h) rfl hnm rfl rfl rfl dX14_init_7 ?_
  refine z_aload_n (pc := 10) x 0 dX14_init_10 rfl rfl ?_
  refine z_call (pc := 11) (z_canIN (pc := 11) (ret := none) (As := []) (st := []) x (fun b => m_X10_init hl (some b)) q1046 rfl q907 q146 q908 n_X10_init ⟨by decide, by decide⟩ (Nat.le_of_ble_eq_true rfl) dX14_init_11) (zv_V ?_) (fun q => zx_thr x (fun z hz => (htab z hz).elim) q)
  exact z_vret (pc := 14) x hret dX14_init_14
end ZGEN2
