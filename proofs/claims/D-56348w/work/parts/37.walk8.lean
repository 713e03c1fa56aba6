/-! ===== walks (by program) ===== -/
set_option maxRecDepth 100000
set_option linter.unusedVariables false
section ZGEN8
variable {p : Program} {l : Launch} {e : Env} {R : Room} {s : State} {m : MethodId} {args : Array Value} {below : List Frame} {meth : Method} {c : Code} {E : zE} {D : va_G} {tA : Nat → ClassId} {k0 : Nat}
/-! X6_isLiteral -/
def s_X6_isLiteral_111 (E : zE) (a0 : Option Nat) (a1 : Int32) (b0 : Option Nat) (b1 : Int32) (b2 : Int32) : zM := zSaI E 0 b0 b1 b2 (zGetI a0 34 24 (fun v114 => zSet E a0 34 24 (zVal (zI (v114 + (1 : Int32)))) (zC (zRv a0 [(34, fun b => s_X6_isTerm E (some b) (a1 + (3 : Int32)))]) zThr (zKI (fun v126 => zRetN .boolean v126)))))
theorem w_X6_isLiteral_111 (x : zCx p l R s m args meth c E D tA cX6_isLiteral 2 yX6_isLiteral.cls 12) (hl : l.stackTraces = false) (hret : meth.sig.returnType = (Option.some Jvm.ClassFile.FieldType.boolean)) (hnm : meth.name = yX6_isLiteral.name) (htab : ∀ z ∈ c.exceptionTable.toList, False) (a0 : Option Nat) (a1 : Int32) (b0 : Option Nat) (b1 : Int32) (b2 : Int32) : zW p l e R s m args below meth c E D tA 2 k0 (s_X6_isLiteral_111 E a0 a1 b0 b1 b2) [(0, zP a0), (1, zI a1)] 111 [zI b2, zI b1, zP b0] := by
  unfold s_X6_isLiteral_111
  refine z_iast (pc := 111) x (t := 0) rfl dX6_isLiteral_111 ?_
  refine z_aload_n (pc := 112) x 0 dX6_isLiteral_112 rfl rfl ?_
  refine z_dup (pc := 113) x dX6_isLiteral_113 rfl ?_
  refine z_get (pc := 114) (fun _ _ h => zAsI_eq h) x in_X6 (ci := 34) rfl (k := 24) (by decide) q2809 (fun _ h => h) dX6_isLiteral_114 fun v114 => ?_
  refine z_iconst (pc := 117) x (v := (1 : Int32)) dX6_isLiteral_117 rfl ?_
  refine z_iadd (pc := 118) x dX6_isLiteral_118 ?_
  refine z_set (pc := 119) (v := zI (v114 + (1 : Int32))) x in_X6 tyX6 tyX6_ok nmX6 (ci := 34) rfl (k := 24) (by decide) q2809 (fun _ h => h) rfl rfl rfl dX6_isLiteral_119 ?_
  refine z_aload_n (pc := 122) x 0 dX6_isLiteral_122 rfl rfl ?_
  refine z_iload_n (pc := 123) x 1 dX6_isLiteral_123 rfl rfl ?_
  refine z_iconst (pc := 124) x (v := (3 : Int32)) dX6_isLiteral_124 rfl ?_
  refine z_iadd (pc := 125) x dX6_isLiteral_125 ?_
  refine z_call (pc := 126) (z_canV (pc := 126) (As := [zI (a1 + (3 : Int32))]) (st := []) x (ci := 34) rfl (fun b => m_X6_isTerm hl (some b) (a1 + (3 : Int32))) q3234 q3236 (z_selP x (ci := 34) rfl (by decide) (zNi_inst x q2780) q3235 q3236) q121 q3237 n_X6_isTerm ⟨by decide, by decide⟩ (Nat.le_of_ble_eq_true rfl) dX6_isLiteral_126) (zv_I fun v126 => ?_) (fun q => zx_thr x (fun z hz => (htab z hz).elim) q)
  exact z_zret (pc := 129) x hret dX6_isLiteral_129
def s_X6_isLiteral_92 (E : zE) (a0 : Option Nat) (a1 : Int32) : zM := zGetR a0 34 22 (fun v93 => zC (zRv a0 [(34, fun b => s_X6_now E (some b))]) zThr (zKI (fun v98 => if v98 = (60 : Int32) then (s_X6_isLiteral_111 E a0 a1 v93 a1 (2 : Int32)) else (s_X6_isLiteral_111 E a0 a1 v93 a1 (3 : Int32)))))
theorem w_X6_isLiteral_92 (x : zCx p l R s m args meth c E D tA cX6_isLiteral 2 yX6_isLiteral.cls 12) (hl : l.stackTraces = false) (hret : meth.sig.returnType = (Option.some Jvm.ClassFile.FieldType.boolean)) (hnm : meth.name = yX6_isLiteral.name) (htab : ∀ z ∈ c.exceptionTable.toList, False) (a0 : Option Nat) (a1 : Int32) : zW p l e R s m args below meth c E D tA 2 k0 (s_X6_isLiteral_92 E a0 a1) [(0, zP a0), (1, zI a1)] 92 [] := by
  unfold s_X6_isLiteral_92
  refine z_aload_n (pc := 92) x 0 dX6_isLiteral_92 rfl rfl ?_
  refine z_get (pc := 93) (fun _ _ h => zAsR_eq h) x in_X6 (ci := 34) rfl (k := 22) (by decide) q2807 (fun _ h => h) dX6_isLiteral_93 fun v93 => ?_
  refine z_iload_n (pc := 96) x 1 dX6_isLiteral_96 rfl rfl ?_
  refine z_aload_n (pc := 97) x 0 dX6_isLiteral_97 rfl rfl ?_
  refine z_call (pc := 98) (z_canV (pc := 98) (As := []) (st := [zI a1, zP v93]) x (ci := 34) rfl (fun b => m_X6_now hl (some b)) q3207 q3209 (z_selP x (ci := 34) rfl (by decide) (zNi_inst x q2780) q3208 q3209) q121 q3210 n_X6_now ⟨by decide, by decide⟩ (Nat.le_of_ble_eq_true rfl) dX6_isLiteral_98) (zv_I fun v98 => ?_) (fun q => zx_thr x (fun z hz => (htab z hz).elim) q)
  refine z_bipush (pc := 101) x (v := (60 : Int32)) dX6_isLiteral_101 rfl ?_
  refine z_icmp_ne (pc := 103) (tgt := 110) x dX6_isLiteral_103 rfl (fun _ => ?_) (fun _ => ?_)
  · refine z_iconst (pc := 106) x (v := (2 : Int32)) dX6_isLiteral_106 rfl ?_
    refine z_goto (pc := 107) (tgt := 111) x dX6_isLiteral_107 rfl ?_
    exact z_sub [0, 1] rfl (w_X6_isLiteral_111 x hl hret hnm htab a0 a1 v93 a1 (2 : Int32))
  · refine z_iconst (pc := 110) x (v := (3 : Int32)) dX6_isLiteral_110 rfl ?_
    exact z_sub [0, 1] rfl (w_X6_isLiteral_111 x hl hret hnm htab a0 a1 v93 a1 (3 : Int32))
def s_X6_isLiteral (E : zE) (a0 : Option Nat) (a1 : Int32) : zM := zC (zRv a0 [(34, fun b => s_X6_isSign E (some b) (33 : Int32))]) zThr (zKI (fun v3 => if v3 = 0 then (zC (zRv a0 [(34, fun b => s_X6_now E (some b))]) zThr (zKI (fun v26 => zC (s_X6_isPredicate E v26) zThr (zKI (fun v29 => if v29 = 0 then (zGetR a0 34 22 (fun v52 => zSaI E 0 v52 (a1 + (1 : Int32)) (-1 : Int32) (zC (zRv a0 [(34, fun b => s_X6_isTerm E (some b) (a1 + (2 : Int32)))]) zThr (zKI (fun v64 => if v64 = 0 then (zRetN .boolean (0 : Int32)) else (zC (zRv a0 [(34, fun b => s_X6_now E (some b))]) zThr (zKI (fun v73 => if v73 = (60 : Int32) then (s_X6_isLiteral_92 E a0 a1) else (zC (zRv a0 [(34, fun b => s_X6_now E (some b))]) zThr (zKI (fun v82 => if v82 = (61 : Int32) then (s_X6_isLiteral_92 E a0 a1) else (zRetN .boolean (0 : Int32))))))))))))) else (zGetR a0 34 22 (fun v36 => zSaI E 0 v36 a1 (0 : Int32) (zC (zRv a0 [(34, fun b => s_X6_isAtom E (some b) (a1 + (1 : Int32)) (0 : Int32))]) zThr (zKI (fun v47 => zRetN .boolean v47)))))))))) else (zGetR a0 34 22 (fun v10 => zSaI E 0 v10 a1 (1 : Int32) (zC (zRv a0 [(34, fun b => s_X6_isAtom E (some b) (a1 + (1 : Int32)) (0 : Int32))]) zThr (zKI (fun v21 => zRetN .boolean v21)))))))
theorem m_X6_isLiteral {l : Launch} {E : zE} {D : va_G} {tA : Nat → ClassId} (hl : l.stackTraces = false) (a0 : Option Nat) (a1 : Int32) : zMet l E D tA yX6_isLiteral (ws_ yX6_isLiteral cX6_isLiteral 2 (Option.some Jvm.ClassFile.FieldType.boolean)) 12 (s_X6_isLiteral E a0 a1) [zP a0, zI a1] := by
  refine z_met hl (by decide +kernel) (by rw [zSl_len]; exact (Nat.le_of_ble_eq_true rfl)) fun p e R s m args below meth c k0 x hret hnm htab => ?_
  refine z_lv [(0, zP a0), (1, zI a1)] rfl ?_
  unfold s_X6_isLiteral
  refine z_aload_n (pc := 0) x 0 dX6_isLiteral_0 rfl rfl ?_
  refine z_bipush (pc := 1) x (v := (33 : Int32)) dX6_isLiteral_1 rfl ?_
  refine z_call (pc := 3) (z_canV (pc := 3) (As := [zI (33 : Int32)]) (st := []) x (ci := 34) rfl (fun b => m_X6_isSign hl (some b) (33 : Int32)) q3222 q3224 (z_selP x (ci := 34) rfl (by decide) (zNi_inst x q2780) q3223 q3224) q121 q3225 n_X6_isSign ⟨by decide, by decide⟩ (Nat.le_of_ble_eq_true rfl) dX6_isLiteral_3) (zv_I fun v3 => ?_) (fun q => zx_thr x (fun z hz => (htab z hz).elim) q)
  refine z_if_eq (pc := 6) (tgt := 25) x dX6_isLiteral_6 rfl (fun _ => ?_) (fun _ => ?_)
  · refine z_aload_n (pc := 25) x 0 dX6_isLiteral_25 rfl rfl ?_
    refine z_call (pc := 26) (z_canV (pc := 26) (As := []) (st := []) x (ci := 34) rfl (fun b => m_X6_now hl (some b)) q3207 q3209 (z_selP x (ci := 34) rfl (by decide) (zNi_inst x q2780) q3208 q3209) q121 q3210 n_X6_now ⟨by decide, by decide⟩ (Nat.le_of_ble_eq_true rfl) dX6_isLiteral_26) (zv_I fun v26 => ?_) (fun q => zx_thr x (fun z hz => (htab z hz).elim) q)
    refine z_call (pc := 29) (z_canS (pc := 29) (As := [zI v26]) (st := []) x (m_X6_isPredicate hl v26) q2892 q2893 q121 q2894 n_X6_isPredicate ⟨by decide, by decide⟩ (Nat.le_of_ble_eq_true rfl) dX6_isLiteral_29) (zv_I fun v29 => ?_) (fun q => zx_thr x (fun z hz => (htab z hz).elim) q)
    refine z_if_eq (pc := 32) (tgt := 51) x dX6_isLiteral_32 rfl (fun _ => ?_) (fun _ => ?_)
    · refine z_aload_n (pc := 51) x 0 dX6_isLiteral_51 rfl rfl ?_
      refine z_get (pc := 52) (fun _ _ h => zAsR_eq h) x in_X6 (ci := 34) rfl (k := 22) (by decide) q2807 (fun _ h => h) dX6_isLiteral_52 fun v52 => ?_
      refine z_iload_n (pc := 55) x 1 dX6_isLiteral_55 rfl rfl ?_
      refine z_iconst (pc := 56) x (v := (1 : Int32)) dX6_isLiteral_56 rfl ?_
      refine z_iadd (pc := 57) x dX6_isLiteral_57 ?_
      refine z_iconst (pc := 58) x (v := (-1 : Int32)) dX6_isLiteral_58 rfl ?_
      refine z_iast (pc := 59) x (t := 0) rfl dX6_isLiteral_59 ?_
      refine z_aload_n (pc := 60) x 0 dX6_isLiteral_60 rfl rfl ?_
      refine z_iload_n (pc := 61) x 1 dX6_isLiteral_61 rfl rfl ?_
      refine z_iconst (pc := 62) x (v := (2 : Int32)) dX6_isLiteral_62 rfl ?_
      refine z_iadd (pc := 63) x dX6_isLiteral_63 ?_
      refine z_call (pc := 64) (z_canV (pc := 64) (As := [zI (a1 + (2 : Int32))]) (st := []) x (ci := 34) rfl (fun b => m_X6_isTerm hl (some b) (a1 + (2 : Int32))) q3234 q3236 (z_selP x (ci := 34) rfl (by decide) (zNi_inst x q2780) q3235 q3236) q121 q3237 n_X6_isTerm ⟨by decide, by decide⟩ (Nat.le_of_ble_eq_true rfl) dX6_isLiteral_64) (zv_I fun v64 => ?_) (fun q => zx_thr x (fun z hz => (htab z hz).elim) q)
      refine z_if_ne (pc := 67) (tgt := 72) x dX6_isLiteral_67 rfl (fun _ => ?_) (fun _ => ?_)
      · refine z_iconst (pc := 70) x (v := (0 : Int32)) dX6_isLiteral_70 rfl ?_
        exact z_zret (pc := 71) x hret dX6_isLiteral_71
      · refine z_aload_n (pc := 72) x 0 dX6_isLiteral_72 rfl rfl ?_
        refine z_call (pc := 73) (z_canV (pc := 73) (As := []) (st := []) x (ci := 34) rfl (fun b => m_X6_now hl (some b)) q3207 q3209 (z_selP x (ci := 34) rfl (by decide) (zNi_inst x q2780) q3208 q3209) q121 q3210 n_X6_now ⟨by decide, by decide⟩ (Nat.le_of_ble_eq_true rfl) dX6_isLiteral_73) (zv_I fun v73 => ?_) (fun q => zx_thr x (fun z hz => (htab z hz).elim) q)
        refine z_bipush (pc := 76) x (v := (60 : Int32)) dX6_isLiteral_76 rfl ?_
        refine z_icmp_eq (pc := 78) (tgt := 92) x dX6_isLiteral_78 rfl (fun _ => ?_) (fun _ => ?_)
        · exact z_sub [0, 1] rfl (w_X6_isLiteral_92 x hl hret hnm htab a0 a1)
        · refine z_aload_n (pc := 81) x 0 dX6_isLiteral_81 rfl rfl ?_
          refine z_call (pc := 82) (z_canV (pc := 82) (As := []) (st := []) x (ci := 34) rfl (fun b => m_X6_now hl (some b)) q3207 q3209 (z_selP x (ci := 34) rfl (by decide) (zNi_inst x q2780) q3208 q3209) q121 q3210 n_X6_now ⟨by decide, by decide⟩ (Nat.le_of_ble_eq_true rfl) dX6_isLiteral_82) (zv_I fun v82 => ?_) (fun q => zx_thr x (fun z hz => (htab z hz).elim) q)
          refine z_bipush (pc := 85) x (v := (61 : Int32)) dX6_isLiteral_85 rfl ?_
          refine z_icmp_eq (pc := 87) (tgt := 92) x dX6_isLiteral_87 rfl (fun _ => ?_) (fun _ => ?_)
          · exact z_sub [0, 1] rfl (w_X6_isLiteral_92 x hl hret hnm htab a0 a1)
          · refine z_iconst (pc := 90) x (v := (0 : Int32)) dX6_isLiteral_90 rfl ?_
            exact z_zret (pc := 91) x hret dX6_isLiteral_91
    · refine z_aload_n (pc := 35) x 0 dX6_isLiteral_35 rfl rfl ?_
      refine z_get (pc := 36) (fun _ _ h => zAsR_eq h) x in_X6 (ci := 34) rfl (k := 22) (by decide) q2807 (fun _ h => h) dX6_isLiteral_36 fun v36 => ?_
      refine z_iload_n (pc := 39) x 1 dX6_isLiteral_39 rfl rfl ?_
      refine z_iconst (pc := 40) x (v := (0 : Int32)) dX6_isLiteral_40 rfl ?_
      refine z_iast (pc := 41) x (t := 0) rfl dX6_isLiteral_41 ?_
      refine z_aload_n (pc := 42) x 0 dX6_isLiteral_42 rfl rfl ?_
      refine z_iload_n (pc := 43) x 1 dX6_isLiteral_43 rfl rfl ?_
      refine z_iconst (pc := 44) x (v := (1 : Int32)) dX6_isLiteral_44 rfl ?_
      refine z_iadd (pc := 45) x dX6_isLiteral_45 ?_
      refine z_iconst (pc := 46) x (v := (0 : Int32)) dX6_isLiteral_46 rfl ?_
      refine z_call (pc := 47) (z_canV (pc := 47) (As := [zI (a1 + (1 : Int32)), zI (0 : Int32)]) (st := []) x (ci := 34) rfl (fun b => m_X6_isAtom hl (some b) (a1 + (1 : Int32)) (0 : Int32)) q3226 q3228 (z_selP x (ci := 34) rfl (by decide) (zNi_inst x q2780) q3227 q3228) q121 q3229 n_X6_isAtom ⟨by decide, by decide⟩ (Nat.le_of_ble_eq_true rfl) dX6_isLiteral_47) (zv_I fun v47 => ?_) (fun q => zx_thr x (fun z hz => (htab z hz).elim) q)
      exact z_zret (pc := 50) x hret dX6_isLiteral_50
  · refine z_aload_n (pc := 9) x 0 dX6_isLiteral_9 rfl rfl ?_
    refine z_get (pc := 10) (fun _ _ h => zAsR_eq h) x in_X6 (ci := 34) rfl (k := 22) (by decide) q2807 (fun _ h => h) dX6_isLiteral_10 fun v10 => ?_
    refine z_iload_n (pc := 13) x 1 dX6_isLiteral_13 rfl rfl ?_
    refine z_iconst (pc := 14) x (v := (1 : Int32)) dX6_isLiteral_14 rfl ?_
    refine z_iast (pc := 15) x (t := 0) rfl dX6_isLiteral_15 ?_
    refine z_aload_n (pc := 16) x 0 dX6_isLiteral_16 rfl rfl ?_
    refine z_iload_n (pc := 17) x 1 dX6_isLiteral_17 rfl rfl ?_
    refine z_iconst (pc := 18) x (v := (1 : Int32)) dX6_isLiteral_18 rfl ?_
    refine z_iadd (pc := 19) x dX6_isLiteral_19 ?_
    refine z_iconst (pc := 20) x (v := (0 : Int32)) dX6_isLiteral_20 rfl ?_
    refine z_call (pc := 21) (z_canV (pc := 21) (As := [zI (a1 + (1 : Int32)), zI (0 : Int32)]) (st := []) x (ci := 34) rfl (fun b => m_X6_isAtom hl (some b) (a1 + (1 : Int32)) (0 : Int32)) q3226 q3228 (z_selP x (ci := 34) rfl (by decide) (zNi_inst x q2780) q3227 q3228) q121 q3229 n_X6_isAtom ⟨by decide, by decide⟩ (Nat.le_of_ble_eq_true rfl) dX6_isLiteral_21) (zv_I fun v21 => ?_) (fun q => zx_thr x (fun z hz => (htab z hz).elim) q)
    exact z_zret (pc := 24) x hret dX6_isLiteral_24
/-! X6_readsRule -/
def s_X6_readsRule_87 (E : zE) : Nat → Option Nat → Int32 → Int32 → Int32 → zM
  | 0, _, _, _, _ => zFail
  | n + 1, a0, a1, a2, a4 => zGetI a0 34 24 (fun v90 => if v90 ≤ a4 then (zRetN .boolean (1 : Int32)) else (zGetR a0 34 22 (fun v97 => zGetR a0 34 21 (fun v110 => zGaI 0 v110 a4 (fun v115 => zSaI E 0 v97 (((a1 + (17 : Int32)) + a4) - a2) v115 ((s_X6_readsRule_87 E n) a0 a1 a2 (a4 + (1 : Int32))))))))
theorem w_X6_readsRule_87 (x : zCx p l R s m args meth c E D tA cX6_readsRule 5 yX6_readsRule.cls 13) (hl : l.stackTraces = false) (hret : meth.sig.returnType = (Option.some Jvm.ClassFile.FieldType.boolean)) (hnm : meth.name = yX6_readsRule.name) (htab : ∀ z ∈ c.exceptionTable.toList, False) : ∀ (n : Nat) (a0 : Option Nat) (a1 : Int32) (a2 : Int32) (a4 : Int32), zW p l e R s m args below meth c E D tA 5 k0 (s_X6_readsRule_87 E n a0 a1 a2 a4) [(0, zP a0), (1, zI a1), (2, zI a2), (4, zI a4)] 87 [] := by
  intro n
  induction n with
  | zero => intro a0 a1 a2 a4; exact z_fail
  | succ n h87 =>
    intro a0 a1 a2 a4
    rw [s_X6_readsRule_87]
    refine z_iload (pc := 87) x 3 dX6_readsRule_87 rfl ?_
    refine z_aload_n (pc := 89) x 0 dX6_readsRule_89 rfl rfl ?_
    refine z_get (pc := 90) (fun _ _ h => zAsI_eq h) x in_X6 (ci := 34) rfl (k := 24) (by decide) q2809 (fun _ h => h) dX6_readsRule_90 fun v90 => ?_
    refine z_icmp_ge (pc := 93) (tgt := 123) x dX6_readsRule_93 rfl (fun _ => ?_) (fun _ => ?_)
    · refine z_iconst (pc := 123) x (v := (1 : Int32)) dX6_readsRule_123 rfl ?_
      exact z_zret (pc := 124) x hret dX6_readsRule_124
    · refine z_aload_n (pc := 96) x 0 dX6_readsRule_96 rfl rfl ?_
      refine z_get (pc := 97) (fun _ _ h => zAsR_eq h) x in_X6 (ci := 34) rfl (k := 22) (by decide) q2807 (fun _ h => h) dX6_readsRule_97 fun v97 => ?_
      refine z_iload_n (pc := 100) x 1 dX6_readsRule_100 rfl rfl ?_
      refine z_bipush (pc := 101) x (v := (17 : Int32)) dX6_readsRule_101 rfl ?_
      refine z_iadd (pc := 103) x dX6_readsRule_103 ?_
      refine z_iload (pc := 104) x 3 dX6_readsRule_104 rfl ?_
      refine z_iadd (pc := 106) x dX6_readsRule_106 ?_
      refine z_iload_n (pc := 107) x 2 dX6_readsRule_107 rfl rfl ?_
      refine z_isub (pc := 108) x dX6_readsRule_108 ?_
      refine z_aload_n (pc := 109) x 0 dX6_readsRule_109 rfl rfl ?_
      refine z_get (pc := 110) (fun _ _ h => zAsR_eq h) x in_X6 (ci := 34) rfl (k := 21) (by decide) q2806 (fun _ h => h) dX6_readsRule_110 fun v110 => ?_
      refine z_iload (pc := 113) x 3 dX6_readsRule_113 rfl ?_
      refine z_iald (pc := 115) x (t := 0) rfl dX6_readsRule_115 fun v115 => ?_
      refine z_iast (pc := 116) x (t := 0) rfl dX6_readsRule_116 ?_
      refine z_iinc (pc := 117) (lv' := [(4, zI (a4 + (1 : Int32))), (0, zP a0), (1, zI a1), (2, zI a2)]) x (v2 := (a4 + (1 : Int32))) 3 dX6_readsRule_117 rfl rfl (Nat.le_of_ble_eq_true rfl) rfl ?_
      refine z_goto (pc := 120) (tgt := 87) x dX6_readsRule_120 rfl ?_
      exact z_sub [1, 2, 3, 0] rfl (h87 a0 a1 a2 (a4 + (1 : Int32)))
def s_X6_readsRule_60 (E : zE) (a0 : Option Nat) (a1 : Int32) (a2 : Int32) (a3 : Int32) : zM := zGetR a0 34 22 (fun v61 => zSaI E 0 v61 (a1 + (3 : Int32)) a3 (zGetR a0 34 22 (fun v70 => zGetI a0 34 24 (fun v78 => zSaI E 0 v70 (a1 + (16 : Int32)) (v78 - a2) (s_X6_readsRule_87 E zN a0 a1 a2 a2)))))
theorem w_X6_readsRule_60 (x : zCx p l R s m args meth c E D tA cX6_readsRule 5 yX6_readsRule.cls 13) (hl : l.stackTraces = false) (hret : meth.sig.returnType = (Option.some Jvm.ClassFile.FieldType.boolean)) (hnm : meth.name = yX6_readsRule.name) (htab : ∀ z ∈ c.exceptionTable.toList, False) (a0 : Option Nat) (a1 : Int32) (a2 : Int32) (a3 : Int32) : zW p l e R s m args below meth c E D tA 5 k0 (s_X6_readsRule_60 E a0 a1 a2 a3) [(0, zP a0), (1, zI a1), (2, zI a2), (3, zI a3)] 60 [] := by
  unfold s_X6_readsRule_60
  refine z_aload_n (pc := 60) x 0 dX6_readsRule_60 rfl rfl ?_
  refine z_get (pc := 61) (fun _ _ h => zAsR_eq h) x in_X6 (ci := 34) rfl (k := 22) (by decide) q2807 (fun _ h => h) dX6_readsRule_61 fun v61 => ?_
  refine z_iload_n (pc := 64) x 1 dX6_readsRule_64 rfl rfl ?_
  refine z_iconst (pc := 65) x (v := (3 : Int32)) dX6_readsRule_65 rfl ?_
  refine z_iadd (pc := 66) x dX6_readsRule_66 ?_
  refine z_iload_n (pc := 67) x 3 dX6_readsRule_67 rfl rfl ?_
  refine z_iast (pc := 68) x (t := 0) rfl dX6_readsRule_68 ?_
  refine z_aload_n (pc := 69) x 0 dX6_readsRule_69 rfl rfl ?_
  refine z_get (pc := 70) (fun _ _ h => zAsR_eq h) x in_X6 (ci := 34) rfl (k := 22) (by decide) q2807 (fun _ h => h) dX6_readsRule_70 fun v70 => ?_
  refine z_iload_n (pc := 73) x 1 dX6_readsRule_73 rfl rfl ?_
  refine z_bipush (pc := 74) x (v := (16 : Int32)) dX6_readsRule_74 rfl ?_
  refine z_iadd (pc := 76) x dX6_readsRule_76 ?_
  refine z_aload_n (pc := 77) x 0 dX6_readsRule_77 rfl rfl ?_
  refine z_get (pc := 78) (fun _ _ h => zAsI_eq h) x in_X6 (ci := 34) rfl (k := 24) (by decide) q2809 (fun _ h => h) dX6_readsRule_78 fun v78 => ?_
  refine z_iload_n (pc := 81) x 2 dX6_readsRule_81 rfl rfl ?_
  refine z_isub (pc := 82) x dX6_readsRule_82 ?_
  refine z_iast (pc := 83) x (t := 0) rfl dX6_readsRule_83 ?_
  refine z_iload_n (pc := 84) x 2 dX6_readsRule_84 rfl rfl ?_
  refine z_istore (pc := 85) (lv' := [(4, zI a2), (0, zP a0), (1, zI a1), (2, zI a2), (3, zI a3)]) x dX6_readsRule_85 (Nat.le_of_ble_eq_true rfl) rfl ?_
  exact z_sub [1, 2, 3, 0] rfl (w_X6_readsRule_87 x hl hret hnm htab zN a0 a1 a2 a2)
def s_X6_readsRule_27 (E : zE) : Nat → Option Nat → Int32 → Int32 → Int32 → zM
  | 0, _, _, _, _ => zFail
  | n + 1, a0, a1, a2, a3 => zC (zRv a0 [(34, fun b => s_X6_isLiteral E (some b) ((a1 + (4 : Int32)) + ((4 : Int32) * a3)))]) zThr (zKI (fun v35 => if v35 = 0 then (zRetN .boolean (0 : Int32)) else (if (3 : Int32) ≤ (a3 + (1 : Int32)) then (s_X6_readsRule_60 E a0 a1 a2 (a3 + (1 : Int32))) else (zC (zRv a0 [(34, fun b => s_X6_isSign E (some b) (44 : Int32))]) zThr (zKI (fun v54 => if v54 = 0 then (s_X6_readsRule_60 E a0 a1 a2 (a3 + (1 : Int32))) else ((s_X6_readsRule_27 E n) a0 a1 a2 (a3 + (1 : Int32)))))))))
theorem w_X6_readsRule_27 (x : zCx p l R s m args meth c E D tA cX6_readsRule 5 yX6_readsRule.cls 13) (hl : l.stackTraces = false) (hret : meth.sig.returnType = (Option.some Jvm.ClassFile.FieldType.boolean)) (hnm : meth.name = yX6_readsRule.name) (htab : ∀ z ∈ c.exceptionTable.toList, False) : ∀ (n : Nat) (a0 : Option Nat) (a1 : Int32) (a2 : Int32) (a3 : Int32), zW p l e R s m args below meth c E D tA 5 k0 (s_X6_readsRule_27 E n a0 a1 a2 a3) [(0, zP a0), (1, zI a1), (2, zI a2), (3, zI a3)] 27 [] := by
  intro n
  induction n with
  | zero => intro a0 a1 a2 a3; exact z_fail
  | succ n h27 =>
    intro a0 a1 a2 a3
    rw [s_X6_readsRule_27]
    refine z_aload_n (pc := 27) x 0 dX6_readsRule_27 rfl rfl ?_
    refine z_iload_n (pc := 28) x 1 dX6_readsRule_28 rfl rfl ?_
    refine z_iconst (pc := 29) x (v := (4 : Int32)) dX6_readsRule_29 rfl ?_
    refine z_iadd (pc := 30) x dX6_readsRule_30 ?_
    refine z_iconst (pc := 31) x (v := (4 : Int32)) dX6_readsRule_31 rfl ?_
    refine z_iload_n (pc := 32) x 3 dX6_readsRule_32 rfl rfl ?_
    refine z_imul (pc := 33) x dX6_readsRule_33 ?_
    refine z_iadd (pc := 34) x dX6_readsRule_34 ?_
    refine z_call (pc := 35) (z_canV (pc := 35) (As := [zI ((a1 + (4 : Int32)) + ((4 : Int32) * a3))]) (st := []) x (ci := 34) rfl (fun b => m_X6_isLiteral hl (some b) ((a1 + (4 : Int32)) + ((4 : Int32) * a3))) q3244 q3246 (z_selP x (ci := 34) rfl (by decide) (zNi_inst x q2780) q3245 q3246) q121 q3247 n_X6_isLiteral ⟨by decide, by decide⟩ (Nat.le_of_ble_eq_true rfl) dX6_readsRule_35) (zv_I fun v35 => ?_) (fun q => zx_thr x (fun z hz => (htab z hz).elim) q)
    refine z_if_ne (pc := 38) (tgt := 43) x dX6_readsRule_38 rfl (fun _ => ?_) (fun _ => ?_)
    · refine z_iconst (pc := 41) x (v := (0 : Int32)) dX6_readsRule_41 rfl ?_
      exact z_zret (pc := 42) x hret dX6_readsRule_42
    · refine z_iinc (pc := 43) (lv' := [(3, zI (a3 + (1 : Int32))), (0, zP a0), (1, zI a1), (2, zI a2)]) x (v2 := (a3 + (1 : Int32))) 3 dX6_readsRule_43 rfl rfl (Nat.le_of_ble_eq_true rfl) rfl ?_
      refine z_iload_n (pc := 46) x 0 dX6_readsRule_46 rfl rfl ?_
      refine z_iconst (pc := 47) x (v := (3 : Int32)) dX6_readsRule_47 rfl ?_
      refine z_icmp_ge (pc := 48) (tgt := 60) x dX6_readsRule_48 rfl (fun _ => ?_) (fun _ => ?_)
      · exact z_sub [1, 2, 3, 0] rfl (w_X6_readsRule_60 x hl hret hnm htab a0 a1 a2 (a3 + (1 : Int32)))
      · refine z_aload_n (pc := 51) x 1 dX6_readsRule_51 rfl rfl ?_
        refine z_bipush (pc := 52) x (v := (44 : Int32)) dX6_readsRule_52 rfl ?_
        refine z_call (pc := 54) (z_canV (pc := 54) (As := [zI (44 : Int32)]) (st := []) x (ci := 34) rfl (fun b => m_X6_isSign hl (some b) (44 : Int32)) q3222 q3224 (z_selP x (ci := 34) rfl (by decide) (zNi_inst x q2780) q3223 q3224) q121 q3225 n_X6_isSign ⟨by decide, by decide⟩ (Nat.le_of_ble_eq_true rfl) dX6_readsRule_54) (zv_I fun v54 => ?_) (fun q => zx_thr x (fun z hz => (htab z hz).elim) q)
        refine z_if_ne (pc := 57) (tgt := 27) x dX6_readsRule_57 rfl (fun _ => ?_) (fun _ => ?_)
        · exact z_sub [1, 2, 3, 0] rfl (w_X6_readsRule_60 x hl hret hnm htab a0 a1 a2 (a3 + (1 : Int32)))
        · exact z_sub [1, 2, 3, 0] rfl (h27 a0 a1 a2 (a3 + (1 : Int32)))
def s_X6_readsRule (E : zE) (a0 : Option Nat) (a1 : Int32) : zM := zGetI a0 34 24 (fun v1 => zC (zRv a0 [(34, fun b => s_X6_isAtom E (some b) a1 (0 : Int32))]) zThr (zKI (fun v8 => if v8 = 0 then (zRetN .boolean (0 : Int32)) else (zC (zRv a0 [(34, fun b => s_X6_isSign E (some b) (58 : Int32))]) zThr (zKI (fun v17 => if v17 = 0 then (zRetN .boolean (0 : Int32)) else (s_X6_readsRule_27 E zN a0 a1 v1 (0 : Int32))))))))
theorem m_X6_readsRule {l : Launch} {E : zE} {D : va_G} {tA : Nat → ClassId} (hl : l.stackTraces = false) (a0 : Option Nat) (a1 : Int32) : zMet l E D tA yX6_readsRule (ws_ yX6_readsRule cX6_readsRule 5 (Option.some Jvm.ClassFile.FieldType.boolean)) 13 (s_X6_readsRule E a0 a1) [zP a0, zI a1] := by
  refine z_met hl (by decide +kernel) (by rw [zSl_len]; exact (Nat.le_of_ble_eq_true rfl)) fun p e R s m args below meth c k0 x hret hnm htab => ?_
  refine z_lv [(0, zP a0), (1, zI a1)] rfl ?_
  unfold s_X6_readsRule
  refine z_aload_n (pc := 0) x 0 dX6_readsRule_0 rfl rfl ?_
  refine z_get (pc := 1) (fun _ _ h => zAsI_eq h) x in_X6 (ci := 34) rfl (k := 24) (by decide) q2809 (fun _ h => h) dX6_readsRule_1 fun v1 => ?_
  refine z_istore_n (pc := 4) (lv' := [(2, zI v1), (0, zP a0), (1, zI a1)]) x dX6_readsRule_4 rfl (Nat.le_of_ble_eq_true rfl) rfl ?_
  refine z_aload_n (pc := 5) x 1 dX6_readsRule_5 rfl rfl ?_
  refine z_iload_n (pc := 6) x 2 dX6_readsRule_6 rfl rfl ?_
  refine z_iconst (pc := 7) x (v := (0 : Int32)) dX6_readsRule_7 rfl ?_
  refine z_call (pc := 8) (z_canV (pc := 8) (As := [zI a1, zI (0 : Int32)]) (st := []) x (ci := 34) rfl (fun b => m_X6_isAtom hl (some b) a1 (0 : Int32)) q3226 q3228 (z_selP x (ci := 34) rfl (by decide) (zNi_inst x q2780) q3227 q3228) q121 q3229 n_X6_isAtom ⟨by decide, by decide⟩ (Nat.le_of_ble_eq_true rfl) dX6_readsRule_8) (zv_I fun v8 => ?_) (fun q => zx_thr x (fun z hz => (htab z hz).elim) q)
  refine z_if_eq (pc := 11) (tgt := 23) x dX6_readsRule_11 rfl (fun _ => ?_) (fun _ => ?_)
  · refine z_iconst (pc := 23) x (v := (0 : Int32)) dX6_readsRule_23 rfl ?_
    exact z_zret (pc := 24) x hret dX6_readsRule_24
  · refine z_aload_n (pc := 14) x 1 dX6_readsRule_14 rfl rfl ?_
    refine z_bipush (pc := 15) x (v := (58 : Int32)) dX6_readsRule_15 rfl ?_
    refine z_call (pc := 17) (z_canV (pc := 17) (As := [zI (58 : Int32)]) (st := []) x (ci := 34) rfl (fun b => m_X6_isSign hl (some b) (58 : Int32)) q3222 q3224 (z_selP x (ci := 34) rfl (by decide) (zNi_inst x q2780) q3223 q3224) q121 q3225 n_X6_isSign ⟨by decide, by decide⟩ (Nat.le_of_ble_eq_true rfl) dX6_readsRule_17) (zv_I fun v17 => ?_) (fun q => zx_thr x (fun z hz => (htab z hz).elim) q)
    refine z_if_ne (pc := 20) (tgt := 25) x dX6_readsRule_20 rfl (fun _ => ?_) (fun _ => ?_)
    · refine z_iconst (pc := 23) x (v := (0 : Int32)) dX6_readsRule_23 rfl ?_
      exact z_zret (pc := 24) x hret dX6_readsRule_24
    · refine z_iconst (pc := 25) x (v := (0 : Int32)) dX6_readsRule_25 rfl ?_
      refine z_istore_n (pc := 26) (lv' := [(3, zI (0 : Int32)), (2, zI v1), (0, zP a0), (1, zI a1)]) x dX6_readsRule_26 rfl (Nat.le_of_ble_eq_true rfl) rfl ?_
      exact z_sub [2, 3, 1, 0] rfl (w_X6_readsRule_27 x hl hret hnm htab zN a0 a1 v1 (0 : Int32))
/-! X6_readsRest -/
def s_X6_readsRest (E : zE) (a0 : Option Nat) (a1 : Int32) (a2 : Int32) : zM := if a1 = (102 : Int32) then (zC (zRv a0 [(34, fun b => s_X6_isWord E (some b) (some (E 49)))]) zThr (zKI (fun v40 => if v40 = 0 then (zRetN .boolean (0 : Int32)) else (zC (zRv a0 [(34, fun b => s_X6_isAtom E (some b) a2 (1 : Int32))]) zThr (zKI (fun v49 => if v49 = 0 then (zRetN .boolean (0 : Int32)) else (zRetN .boolean (1 : Int32)))))))) else (if a1 = (114 : Int32) then (zC (zRv a0 [(34, fun b => s_X6_isWord E (some b) (some (E 51)))]) zThr (zKI (fun v90 => if v90 = 0 then (zRetN .boolean (0 : Int32)) else (zC (zRv a0 [(34, fun b => s_X6_readsRule E (some b) a2)]) zThr (zKI (fun v98 => if v98 = 0 then (zRetN .boolean (0 : Int32)) else (zRetN .boolean (1 : Int32)))))))) else (if a1 = (116 : Int32) then (zC (zRv a0 [(34, fun b => s_X6_isWord E (some b) (some (E 50)))]) zThr (zKI (fun v65 => if v65 = 0 then (zRetN .boolean (0 : Int32)) else (zC (zRv a0 [(34, fun b => s_X6_isAtom E (some b) a2 (1 : Int32))]) zThr (zKI (fun v74 => if v74 = 0 then (zRetN .boolean (0 : Int32)) else (zRetN .boolean (1 : Int32)))))))) else (zC (zRv a0 [(34, fun b => s_X6_isWord E (some b) (some (E 52)))]) zThr (zKI (fun v114 => if v114 = 0 then (zRetN .boolean (0 : Int32)) else (zC (zRv a0 [(34, fun b => s_X6_isDigit E (some b) a2)]) zThr (zKI (fun v122 => if v122 = 0 then (zRetN .boolean (0 : Int32)) else (zRetN .boolean (1 : Int32))))))))))
theorem m_X6_readsRest {l : Launch} {E : zE} {D : va_G} {tA : Nat → ClassId} (hl : l.stackTraces = false) (a0 : Option Nat) (a1 : Int32) (a2 : Int32) : zMet l E D tA yX6_readsRest (ws_ yX6_readsRest cX6_readsRest 3 (Option.some Jvm.ClassFile.FieldType.boolean)) 15 (s_X6_readsRest E a0 a1 a2) [zP a0, zI a1, zI a2] := by
  refine z_met hl (by decide +kernel) (by rw [zSl_len]; exact (Nat.le_of_ble_eq_true rfl)) fun p e R s m args below meth c k0 x hret hnm htab => ?_
  refine z_lv [(0, zP a0), (1, zI a1), (2, zI a2)] rfl ?_
  unfold s_X6_readsRest
  refine z_iload_n (pc := 0) x 1 dX6_readsRest_0 rfl rfl ?_
  refine z_ite (fun e1_1 => ?_) (fun e1_1 => ?_)
  · refine z_lookup (pc := 1) (tgt := 36) x (35) dX6_readsRest_1 (by decide) (by rw [e1_1]; rfl) rfl ?_
    refine z_aload_n (pc := 36) x 0 dX6_readsRest_36 rfl rfl ?_
    refine z_ldcwS (pc := 37) x (k := 49) (List.mem_of_getElem? (i := 33) rfl) dX6_readsRest_37 ?_
    refine z_call (pc := 40) (z_canV (pc := 40) (As := [zP (some (E 49))]) (st := []) x (ci := 34) rfl (fun b => m_X6_isWord hl (some b) (some (E 49))) q3216 q3218 (z_selP x (ci := 34) rfl (by decide) (zNi_inst x q2780) q3217 q3218) q121 q3219 n_X6_isWord ⟨by decide, by decide⟩ (Nat.le_of_ble_eq_true rfl) dX6_readsRest_40) (zv_I fun v40 => ?_) (fun q => zx_thr x (fun z hz => (htab z hz).elim) q)
    refine z_if_eq (pc := 43) (tgt := 59) x dX6_readsRest_43 rfl (fun _ => ?_) (fun _ => ?_)
    · refine z_iconst (pc := 59) x (v := (0 : Int32)) dX6_readsRest_59 rfl ?_
      exact z_zret (pc := 60) x hret dX6_readsRest_60
    · refine z_aload_n (pc := 46) x 0 dX6_readsRest_46 rfl rfl ?_
      refine z_iload_n (pc := 47) x 2 dX6_readsRest_47 rfl rfl ?_
      refine z_iconst (pc := 48) x (v := (1 : Int32)) dX6_readsRest_48 rfl ?_
      refine z_call (pc := 49) (z_canV (pc := 49) (As := [zI a2, zI (1 : Int32)]) (st := []) x (ci := 34) rfl (fun b => m_X6_isAtom hl (some b) a2 (1 : Int32)) q3226 q3228 (z_selP x (ci := 34) rfl (by decide) (zNi_inst x q2780) q3227 q3228) q121 q3229 n_X6_isAtom ⟨by decide, by decide⟩ (Nat.le_of_ble_eq_true rfl) dX6_readsRest_49) (zv_I fun v49 => ?_) (fun q => zx_thr x (fun z hz => (htab z hz).elim) q)
      refine z_if_eq (pc := 52) (tgt := 59) x dX6_readsRest_52 rfl (fun _ => ?_) (fun _ => ?_)
      · refine z_iconst (pc := 59) x (v := (0 : Int32)) dX6_readsRest_59 rfl ?_
        exact z_zret (pc := 60) x hret dX6_readsRest_60
      · refine z_iconst (pc := 55) x (v := (1 : Int32)) dX6_readsRest_55 rfl ?_
        refine z_goto (pc := 56) (tgt := 60) x dX6_readsRest_56 rfl ?_
        exact z_zret (pc := 60) x hret dX6_readsRest_60
  refine z_ite (fun e1_2 => ?_) (fun e1_2 => ?_)
  · refine z_lookup (pc := 1) (tgt := 86) x (85) dX6_readsRest_1 (by decide) (by rw [e1_2]; rfl) rfl ?_
    refine z_aload_n (pc := 86) x 0 dX6_readsRest_86 rfl rfl ?_
    refine z_ldcwS (pc := 87) x (k := 51) (List.mem_of_getElem? (i := 35) rfl) dX6_readsRest_87 ?_
    refine z_call (pc := 90) (z_canV (pc := 90) (As := [zP (some (E 51))]) (st := []) x (ci := 34) rfl (fun b => m_X6_isWord hl (some b) (some (E 51))) q3216 q3218 (z_selP x (ci := 34) rfl (by decide) (zNi_inst x q2780) q3217 q3218) q121 q3219 n_X6_isWord ⟨by decide, by decide⟩ (Nat.le_of_ble_eq_true rfl) dX6_readsRest_90) (zv_I fun v90 => ?_) (fun q => zx_thr x (fun z hz => (htab z hz).elim) q)
    refine z_if_eq (pc := 93) (tgt := 108) x dX6_readsRest_93 rfl (fun _ => ?_) (fun _ => ?_)
    · refine z_iconst (pc := 108) x (v := (0 : Int32)) dX6_readsRest_108 rfl ?_
      exact z_zret (pc := 109) x hret dX6_readsRest_109
    · refine z_aload_n (pc := 96) x 0 dX6_readsRest_96 rfl rfl ?_
      refine z_iload_n (pc := 97) x 2 dX6_readsRest_97 rfl rfl ?_
      refine z_call (pc := 98) (z_canV (pc := 98) (As := [zI a2]) (st := []) x (ci := 34) rfl (fun b => m_X6_readsRule hl (some b) a2) q3240 q3242 (z_selP x (ci := 34) rfl (by decide) (zNi_inst x q2780) q3241 q3242) q121 q3243 n_X6_readsRule ⟨by decide, by decide⟩ (Nat.le_of_ble_eq_true rfl) dX6_readsRest_98) (zv_I fun v98 => ?_) (fun q => zx_thr x (fun z hz => (htab z hz).elim) q)
      refine z_if_eq (pc := 101) (tgt := 108) x dX6_readsRest_101 rfl (fun _ => ?_) (fun _ => ?_)
      · refine z_iconst (pc := 108) x (v := (0 : Int32)) dX6_readsRest_108 rfl ?_
        exact z_zret (pc := 109) x hret dX6_readsRest_109
      · refine z_iconst (pc := 104) x (v := (1 : Int32)) dX6_readsRest_104 rfl ?_
        refine z_goto (pc := 105) (tgt := 109) x dX6_readsRest_105 rfl ?_
        exact z_zret (pc := 109) x hret dX6_readsRest_109
  refine z_ite (fun e1_3 => ?_) (fun e1_3 => ?_)
  · refine z_lookup (pc := 1) (tgt := 61) x (60) dX6_readsRest_1 (by decide) (by rw [e1_3]; rfl) rfl ?_
    refine z_aload_n (pc := 61) x 0 dX6_readsRest_61 rfl rfl ?_
    refine z_ldcwS (pc := 62) x (k := 50) (List.mem_of_getElem? (i := 34) rfl) dX6_readsRest_62 ?_
    refine z_call (pc := 65) (z_canV (pc := 65) (As := [zP (some (E 50))]) (st := []) x (ci := 34) rfl (fun b => m_X6_isWord hl (some b) (some (E 50))) q3216 q3218 (z_selP x (ci := 34) rfl (by decide) (zNi_inst x q2780) q3217 q3218) q121 q3219 n_X6_isWord ⟨by decide, by decide⟩ (Nat.le_of_ble_eq_true rfl) dX6_readsRest_65) (zv_I fun v65 => ?_) (fun q => zx_thr x (fun z hz => (htab z hz).elim) q)
    refine z_if_eq (pc := 68) (tgt := 84) x dX6_readsRest_68 rfl (fun _ => ?_) (fun _ => ?_)
    · refine z_iconst (pc := 84) x (v := (0 : Int32)) dX6_readsRest_84 rfl ?_
      exact z_zret (pc := 85) x hret dX6_readsRest_85
    · refine z_aload_n (pc := 71) x 0 dX6_readsRest_71 rfl rfl ?_
      refine z_iload_n (pc := 72) x 2 dX6_readsRest_72 rfl rfl ?_
      refine z_iconst (pc := 73) x (v := (1 : Int32)) dX6_readsRest_73 rfl ?_
      refine z_call (pc := 74) (z_canV (pc := 74) (As := [zI a2, zI (1 : Int32)]) (st := []) x (ci := 34) rfl (fun b => m_X6_isAtom hl (some b) a2 (1 : Int32)) q3226 q3228 (z_selP x (ci := 34) rfl (by decide) (zNi_inst x q2780) q3227 q3228) q121 q3229 n_X6_isAtom ⟨by decide, by decide⟩ (Nat.le_of_ble_eq_true rfl) dX6_readsRest_74) (zv_I fun v74 => ?_) (fun q => zx_thr x (fun z hz => (htab z hz).elim) q)
      refine z_if_eq (pc := 77) (tgt := 84) x dX6_readsRest_77 rfl (fun _ => ?_) (fun _ => ?_)
      · refine z_iconst (pc := 84) x (v := (0 : Int32)) dX6_readsRest_84 rfl ?_
        exact z_zret (pc := 85) x hret dX6_readsRest_85
      · refine z_iconst (pc := 80) x (v := (1 : Int32)) dX6_readsRest_80 rfl ?_
        refine z_goto (pc := 81) (tgt := 85) x dX6_readsRest_81 rfl ?_
        exact z_zret (pc := 85) x hret dX6_readsRest_85
  refine z_lookup (pc := 1) (tgt := 110) x (109) dX6_readsRest_1 (by decide) (by show Op.lookupswitch.offset [(102, 35), (114, 85), (116, 60)] _ _ = _; rw [lv_osw (a := 102) e1_1 rfl, lv_osw (a := 114) e1_2 rfl, lv_osw (a := 116) e1_3 rfl]; rfl) rfl ?_
  refine z_aload_n (pc := 110) x 0 dX6_readsRest_110 rfl rfl ?_
  refine z_ldcwS (pc := 111) x (k := 52) (List.mem_of_getElem? (i := 36) rfl) dX6_readsRest_111 ?_
  refine z_call (pc := 114) (z_canV (pc := 114) (As := [zP (some (E 52))]) (st := []) x (ci := 34) rfl (fun b => m_X6_isWord hl (some b) (some (E 52))) q3216 q3218 (z_selP x (ci := 34) rfl (by decide) (zNi_inst x q2780) q3217 q3218) q121 q3219 n_X6_isWord ⟨by decide, by decide⟩ (Nat.le_of_ble_eq_true rfl) dX6_readsRest_114) (zv_I fun v114 => ?_) (fun q => zx_thr x (fun z hz => (htab z hz).elim) q)
  refine z_if_eq (pc := 117) (tgt := 132) x dX6_readsRest_117 rfl (fun _ => ?_) (fun _ => ?_)
  · refine z_iconst (pc := 132) x (v := (0 : Int32)) dX6_readsRest_132 rfl ?_
    exact z_zret (pc := 133) x hret dX6_readsRest_133
  · refine z_aload_n (pc := 120) x 0 dX6_readsRest_120 rfl rfl ?_
    refine z_iload_n (pc := 121) x 2 dX6_readsRest_121 rfl rfl ?_
    refine z_call (pc := 122) (z_canV (pc := 122) (As := [zI a2]) (st := []) x (ci := 34) rfl (fun b => m_X6_isDigit hl (some b) a2) q3230 q3232 (z_selP x (ci := 34) rfl (by decide) (zNi_inst x q2780) q3231 q3232) q121 q3233 n_X6_isDigit ⟨by decide, by decide⟩ (Nat.le_of_ble_eq_true rfl) dX6_readsRest_122) (zv_I fun v122 => ?_) (fun q => zx_thr x (fun z hz => (htab z hz).elim) q)
    refine z_if_eq (pc := 125) (tgt := 132) x dX6_readsRest_125 rfl (fun _ => ?_) (fun _ => ?_)
    · refine z_iconst (pc := 132) x (v := (0 : Int32)) dX6_readsRest_132 rfl ?_
      exact z_zret (pc := 133) x hret dX6_readsRest_133
    · refine z_iconst (pc := 128) x (v := (1 : Int32)) dX6_readsRest_128 rfl ?_
      refine z_goto (pc := 129) (tgt := 133) x dX6_readsRest_129 rfl ?_
      exact z_zret (pc := 133) x hret dX6_readsRest_133
/-! X6_readsCommand -/
def s_X6_readsCommand_41 (E : zE) : Nat → Option Nat → Int32 → Int32 → Int32 → zM
  | 0, _, _, _, _ => zFail
  | n + 1, a0, a1, a2, a3 => if (77 : Int32) ≤ a3 then (zGetR a0 34 22 (fun v63 => zSaI E 0 v63 (a1 + (76 : Int32)) a2 (zGetI a0 34 24 (fun v74 => zSet E a0 34 24 (zVal (zI (v74 + (1 : Int32)))) (zGetI a0 34 25 (fun v84 => zSet E a0 34 25 (zVal (zI (v84 + (1 : Int32)))) (zC (zRv a0 [(34, fun b => s_X6_readsRest E (some b) a2 a1)]) zThr (zKI (fun v95 => zRetN .boolean v95))))))))) else (zGetR a0 34 22 (fun v48 => zSaI E 0 v48 (a1 + a3) (0 : Int32) ((s_X6_readsCommand_41 E n) a0 a1 a2 (a3 + (1 : Int32)))))
theorem w_X6_readsCommand_41 (x : zCx p l R s m args meth c E D tA cX6_readsCommand 4 yX6_readsCommand.cls 16) (hl : l.stackTraces = false) (hret : meth.sig.returnType = (Option.some Jvm.ClassFile.FieldType.boolean)) (hnm : meth.name = yX6_readsCommand.name) (htab : ∀ z ∈ c.exceptionTable.toList, False) : ∀ (n : Nat) (a0 : Option Nat) (a1 : Int32) (a2 : Int32) (a3 : Int32), zW p l e R s m args below meth c E D tA 4 k0 (s_X6_readsCommand_41 E n a0 a1 a2 a3) [(0, zP a0), (1, zI a1), (2, zI a2), (3, zI a3)] 41 [] := by
  intro n
  induction n with
  | zero => intro a0 a1 a2 a3; exact z_fail
  | succ n h41 =>
    intro a0 a1 a2 a3
    rw [s_X6_readsCommand_41]
    refine z_iload_n (pc := 41) x 3 dX6_readsCommand_41 rfl rfl ?_
    refine z_bipush (pc := 42) x (v := (77 : Int32)) dX6_readsCommand_42 rfl ?_
    refine z_icmp_ge (pc := 44) (tgt := 62) x dX6_readsCommand_44 rfl (fun _ => ?_) (fun _ => ?_)
    · refine z_aload_n (pc := 62) x 0 dX6_readsCommand_62 rfl rfl ?_
      refine z_get (pc := 63) (fun _ _ h => zAsR_eq h) x in_X6 (ci := 34) rfl (k := 22) (by decide) q2807 (fun _ h => h) dX6_readsCommand_63 fun v63 => ?_
      refine z_iload_n (pc := 66) x 1 dX6_readsCommand_66 rfl rfl ?_
      refine z_bipush (pc := 67) x (v := (76 : Int32)) dX6_readsCommand_67 rfl ?_
      refine z_iadd (pc := 69) x dX6_readsCommand_69 ?_
      refine z_iload_n (pc := 70) x 2 dX6_readsCommand_70 rfl rfl ?_
      refine z_iast (pc := 71) x (t := 0) rfl dX6_readsCommand_71 ?_
      refine z_aload_n (pc := 72) x 0 dX6_readsCommand_72 rfl rfl ?_
      refine z_dup (pc := 73) x dX6_readsCommand_73 rfl ?_
      refine z_get (pc := 74) (fun _ _ h => zAsI_eq h) x in_X6 (ci := 34) rfl (k := 24) (by decide) q2809 (fun _ h => h) dX6_readsCommand_74 fun v74 => ?_
      refine z_iconst (pc := 77) x (v := (1 : Int32)) dX6_readsCommand_77 rfl ?_
      refine z_iadd (pc := 78) x dX6_readsCommand_78 ?_
      refine z_set (pc := 79) (v := zI (v74 + (1 : Int32))) x in_X6 tyX6 tyX6_ok nmX6 (ci := 34) rfl (k := 24) (by decide) q2809 (fun _ h => h) rfl rfl rfl dX6_readsCommand_79 ?_
      refine z_aload_n (pc := 82) x 0 dX6_readsCommand_82 rfl rfl ?_
      refine z_dup (pc := 83) x dX6_readsCommand_83 rfl ?_
      refine z_get (pc := 84) (fun _ _ h => zAsI_eq h) x in_X6 (ci := 34) rfl (k := 25) (by decide) q2810 (fun _ h => h) dX6_readsCommand_84 fun v84 => ?_
      refine z_iconst (pc := 87) x (v := (1 : Int32)) dX6_readsCommand_87 rfl ?_
      refine z_iadd (pc := 88) x dX6_readsCommand_88 ?_
      refine z_set (pc := 89) (v := zI (v84 + (1 : Int32))) x in_X6 tyX6 tyX6_ok nmX6 (ci := 34) rfl (k := 25) (by decide) q2810 (fun _ h => h) rfl rfl rfl dX6_readsCommand_89 ?_
      refine z_aload_n (pc := 92) x 0 dX6_readsCommand_92 rfl rfl ?_
      refine z_iload_n (pc := 93) x 2 dX6_readsCommand_93 rfl rfl ?_
      refine z_iload_n (pc := 94) x 1 dX6_readsCommand_94 rfl rfl ?_
      refine z_call (pc := 95) (z_canV (pc := 95) (As := [zI a2, zI a1]) (st := []) x (ci := 34) rfl (fun b => m_X6_readsRest hl (some b) a2 a1) q3211 q3213 (z_selP x (ci := 34) rfl (by decide) (zNi_inst x q2780) q3212 q3213) q121 q3214 n_X6_readsRest ⟨by decide, by decide⟩ (Nat.le_of_ble_eq_true rfl) dX6_readsCommand_95) (zv_I fun v95 => ?_) (fun q => zx_thr x (fun z hz => (htab z hz).elim) q)
      exact z_zret (pc := 98) x hret dX6_readsCommand_98
    · refine z_aload_n (pc := 47) x 0 dX6_readsCommand_47 rfl rfl ?_
      refine z_get (pc := 48) (fun _ _ h => zAsR_eq h) x in_X6 (ci := 34) rfl (k := 22) (by decide) q2807 (fun _ h => h) dX6_readsCommand_48 fun v48 => ?_
      refine z_iload_n (pc := 51) x 1 dX6_readsCommand_51 rfl rfl ?_
      refine z_iload_n (pc := 52) x 3 dX6_readsCommand_52 rfl rfl ?_
      refine z_iadd (pc := 53) x dX6_readsCommand_53 ?_
      refine z_iconst (pc := 54) x (v := (0 : Int32)) dX6_readsCommand_54 rfl ?_
      refine z_iast (pc := 55) x (t := 0) rfl dX6_readsCommand_55 ?_
      refine z_iinc (pc := 56) (lv' := [(3, zI (a3 + (1 : Int32))), (0, zP a0), (1, zI a1), (2, zI a2)]) x (v2 := (a3 + (1 : Int32))) 3 dX6_readsCommand_56 rfl rfl (Nat.le_of_ble_eq_true rfl) rfl ?_
      refine z_goto (pc := 59) (tgt := 41) x dX6_readsCommand_59 rfl ?_
      exact z_sub [1, 2, 3, 0] rfl (h41 a0 a1 a2 (a3 + (1 : Int32)))
def s_X6_readsCommand_39 (E : zE) (a0 : Option Nat) (a1 : Int32) (a2 : Int32) : zM := s_X6_readsCommand_41 E zN a0 a1 a2 (0 : Int32)
theorem w_X6_readsCommand_39 (x : zCx p l R s m args meth c E D tA cX6_readsCommand 4 yX6_readsCommand.cls 16) (hl : l.stackTraces = false) (hret : meth.sig.returnType = (Option.some Jvm.ClassFile.FieldType.boolean)) (hnm : meth.name = yX6_readsCommand.name) (htab : ∀ z ∈ c.exceptionTable.toList, False) (a0 : Option Nat) (a1 : Int32) (a2 : Int32) : zW p l e R s m args below meth c E D tA 4 k0 (s_X6_readsCommand_39 E a0 a1 a2) [(0, zP a0), (1, zI a1), (2, zI a2)] 39 [] := by
  unfold s_X6_readsCommand_39
  refine z_iconst (pc := 39) x (v := (0 : Int32)) dX6_readsCommand_39 rfl ?_
  refine z_istore_n (pc := 40) (lv' := [(3, zI (0 : Int32)), (0, zP a0), (1, zI a1), (2, zI a2)]) x dX6_readsCommand_40 rfl (Nat.le_of_ble_eq_true rfl) rfl ?_
  exact z_sub [1, 2, 3, 0] rfl (w_X6_readsCommand_41 x hl hret hnm htab zN a0 a1 a2 (0 : Int32))
def s_X6_readsCommand (E : zE) (a0 : Option Nat) : zM := zGetI a0 34 25 (fun v3 => zC (zRv a0 [(34, fun b => s_X6_now E (some b))]) zThr (zKI (fun v9 => if v9 = (102 : Int32) then (s_X6_readsCommand_39 E a0 ((77 : Int32) * v3) v9) else (if v9 = (116 : Int32) then (s_X6_readsCommand_39 E a0 ((77 : Int32) * v3) v9) else (if v9 = (114 : Int32) then (s_X6_readsCommand_39 E a0 ((77 : Int32) * v3) v9) else (if v9 = (100 : Int32) then (s_X6_readsCommand_39 E a0 ((77 : Int32) * v3) v9) else (zRetN .boolean (0 : Int32))))))))
theorem m_X6_readsCommand {l : Launch} {E : zE} {D : va_G} {tA : Nat → ClassId} (hl : l.stackTraces = false) (a0 : Option Nat) : zMet l E D tA yX6_readsCommand (ws_ yX6_readsCommand cX6_readsCommand 4 (Option.some Jvm.ClassFile.FieldType.boolean)) 16 (s_X6_readsCommand E a0) [zP a0] := by
  refine z_met hl (by decide +kernel) (by rw [zSl_len]; exact (Nat.le_of_ble_eq_true rfl)) fun p e R s m args below meth c k0 x hret hnm htab => ?_
  refine z_lv [(0, zP a0)] rfl ?_
  unfold s_X6_readsCommand
  refine z_bipush (pc := 0) x (v := (77 : Int32)) dX6_readsCommand_0 rfl ?_
  refine z_aload_n (pc := 2) x 0 dX6_readsCommand_2 rfl rfl ?_
  refine z_get (pc := 3) (fun _ _ h => zAsI_eq h) x in_X6 (ci := 34) rfl (k := 25) (by decide) q2810 (fun _ h => h) dX6_readsCommand_3 fun v3 => ?_
  refine z_imul (pc := 6) x dX6_readsCommand_6 ?_
  refine z_istore_n (pc := 7) (lv' := [(1, zI ((77 : Int32) * v3)), (0, zP a0)]) x dX6_readsCommand_7 rfl (Nat.le_of_ble_eq_true rfl) rfl ?_
  refine z_aload_n (pc := 8) x 1 dX6_readsCommand_8 rfl rfl ?_
  refine z_call (pc := 9) (z_canV (pc := 9) (As := []) (st := []) x (ci := 34) rfl (fun b => m_X6_now hl (some b)) q3207 q3209 (z_selP x (ci := 34) rfl (by decide) (zNi_inst x q2780) q3208 q3209) q121 q3210 n_X6_now ⟨by decide, by decide⟩ (Nat.le_of_ble_eq_true rfl) dX6_readsCommand_9) (zv_I fun v9 => ?_) (fun q => zx_thr x (fun z hz => (htab z hz).elim) q)
  refine z_istore_n (pc := 12) (lv' := [(2, zI v9), (1, zI ((77 : Int32) * v3)), (0, zP a0)]) x dX6_readsCommand_12 rfl (Nat.le_of_ble_eq_true rfl) rfl ?_
  refine z_iload_n (pc := 13) x 0 dX6_readsCommand_13 rfl rfl ?_
  refine z_bipush (pc := 14) x (v := (102 : Int32)) dX6_readsCommand_14 rfl ?_
  refine z_icmp_eq (pc := 16) (tgt := 39) x dX6_readsCommand_16 rfl (fun _ => ?_) (fun _ => ?_)
  · exact z_sub [2, 1, 0] rfl (w_X6_readsCommand_39 x hl hret hnm htab a0 ((77 : Int32) * v3) v9)
  · refine z_iload_n (pc := 19) x 0 dX6_readsCommand_19 rfl rfl ?_
    refine z_bipush (pc := 20) x (v := (116 : Int32)) dX6_readsCommand_20 rfl ?_
    refine z_icmp_eq (pc := 22) (tgt := 39) x dX6_readsCommand_22 rfl (fun _ => ?_) (fun _ => ?_)
    · exact z_sub [2, 1, 0] rfl (w_X6_readsCommand_39 x hl hret hnm htab a0 ((77 : Int32) * v3) v9)
    · refine z_iload_n (pc := 25) x 0 dX6_readsCommand_25 rfl rfl ?_
      refine z_bipush (pc := 26) x (v := (114 : Int32)) dX6_readsCommand_26 rfl ?_
      refine z_icmp_eq (pc := 28) (tgt := 39) x dX6_readsCommand_28 rfl (fun _ => ?_) (fun _ => ?_)
      · exact z_sub [2, 1, 0] rfl (w_X6_readsCommand_39 x hl hret hnm htab a0 ((77 : Int32) * v3) v9)
      · refine z_iload_n (pc := 31) x 0 dX6_readsCommand_31 rfl rfl ?_
        refine z_bipush (pc := 32) x (v := (100 : Int32)) dX6_readsCommand_32 rfl ?_
        refine z_icmp_eq (pc := 34) (tgt := 39) x dX6_readsCommand_34 rfl (fun _ => ?_) (fun _ => ?_)
        · exact z_sub [2, 1, 0] rfl (w_X6_readsCommand_39 x hl hret hnm htab a0 ((77 : Int32) * v3) v9)
        · refine z_iconst (pc := 37) x (v := (0 : Int32)) dX6_readsCommand_37 rfl ?_
          exact z_zret (pc := 38) x hret dX6_readsCommand_38
/-! X6_isProgram -/
def s_X6_isProgram_36 (E : zE) (a0 : Option Nat) (a1 : Int32) : zM := if a1 = 0 then (zRetN .boolean (0 : Int32)) else (zGetI a0 34 24 (fun v41 => zGetI a0 34 23 (fun v45 => if v41 = v45 then (zRetN .boolean (1 : Int32)) else (zRetN .boolean (0 : Int32)))))
theorem w_X6_isProgram_36 (x : zCx p l R s m args meth c E D tA cX6_isProgram 2 yX6_isProgram.cls 17) (hl : l.stackTraces = false) (hret : meth.sig.returnType = (Option.some Jvm.ClassFile.FieldType.boolean)) (hnm : meth.name = yX6_isProgram.name) (htab : ∀ z ∈ c.exceptionTable.toList, False) (a0 : Option Nat) (a1 : Int32) : zW p l e R s m args below meth c E D tA 2 k0 (s_X6_isProgram_36 E a0 a1) [(0, zP a0), (1, zI a1)] 36 [] := by
  unfold s_X6_isProgram_36
  refine z_iload_n (pc := 36) x 1 dX6_isProgram_36 rfl rfl ?_
  refine z_if_eq (pc := 37) (tgt := 55) x dX6_isProgram_37 rfl (fun _ => ?_) (fun _ => ?_)
  · refine z_iconst (pc := 55) x (v := (0 : Int32)) dX6_isProgram_55 rfl ?_
    exact z_zret (pc := 56) x hret dX6_isProgram_56
  · refine z_aload_n (pc := 40) x 0 dX6_isProgram_40 rfl rfl ?_
    refine z_get (pc := 41) (fun _ _ h => zAsI_eq h) x in_X6 (ci := 34) rfl (k := 24) (by decide) q2809 (fun _ h => h) dX6_isProgram_41 fun v41 => ?_
    refine z_aload_n (pc := 44) x 0 dX6_isProgram_44 rfl rfl ?_
    refine z_get (pc := 45) (fun _ _ h => zAsI_eq h) x in_X6 (ci := 34) rfl (k := 23) (by decide) q2808 (fun _ h => h) dX6_isProgram_45 fun v45 => ?_
    refine z_icmp_ne (pc := 48) (tgt := 55) x dX6_isProgram_48 rfl (fun _ => ?_) (fun _ => ?_)
    · refine z_iconst (pc := 51) x (v := (1 : Int32)) dX6_isProgram_51 rfl ?_
      refine z_goto (pc := 52) (tgt := 56) x dX6_isProgram_52 rfl ?_
      exact z_zret (pc := 56) x hret dX6_isProgram_56
    · refine z_iconst (pc := 55) x (v := (0 : Int32)) dX6_isProgram_55 rfl ?_
      exact z_zret (pc := 56) x hret dX6_isProgram_56
def s_X6_isProgram_15 (E : zE) : Nat → Option Nat → Int32 → zM
  | 0, _, _ => zFail
  | n + 1, a0, a1 => if a1 = 0 then (s_X6_isProgram_36 E a0 a1) else (zC (zRv a0 [(34, fun b => s_X6_isSign E (some b) (59 : Int32))]) zThr (zKI (fun v22 => if v22 = 0 then (s_X6_isProgram_36 E a0 a1) else (zC (zRv a0 [(34, fun b => s_X6_readsCommand E (some b))]) zThr (zKI (fun v29 => (s_X6_isProgram_15 E n) a0 v29))))))
theorem w_X6_isProgram_15 (x : zCx p l R s m args meth c E D tA cX6_isProgram 2 yX6_isProgram.cls 17) (hl : l.stackTraces = false) (hret : meth.sig.returnType = (Option.some Jvm.ClassFile.FieldType.boolean)) (hnm : meth.name = yX6_isProgram.name) (htab : ∀ z ∈ c.exceptionTable.toList, False) : ∀ (n : Nat) (a0 : Option Nat) (a1 : Int32), zW p l e R s m args below meth c E D tA 2 k0 (s_X6_isProgram_15 E n a0 a1) [(0, zP a0), (1, zI a1)] 15 [] := by
  intro n
  induction n with
  | zero => intro a0 a1; exact z_fail
  | succ n h15 =>
    intro a0 a1
    rw [s_X6_isProgram_15]
    refine z_iload_n (pc := 15) x 1 dX6_isProgram_15 rfl rfl ?_
    refine z_if_eq (pc := 16) (tgt := 36) x dX6_isProgram_16 rfl (fun _ => ?_) (fun _ => ?_)
    · exact z_sub [0, 1] rfl (w_X6_isProgram_36 x hl hret hnm htab a0 a1)
    · refine z_aload_n (pc := 19) x 0 dX6_isProgram_19 rfl rfl ?_
      refine z_bipush (pc := 20) x (v := (59 : Int32)) dX6_isProgram_20 rfl ?_
      refine z_call (pc := 22) (z_canV (pc := 22) (As := [zI (59 : Int32)]) (st := []) x (ci := 34) rfl (fun b => m_X6_isSign hl (some b) (59 : Int32)) q3222 q3224 (z_selP x (ci := 34) rfl (by decide) (zNi_inst x q2780) q3223 q3224) q121 q3225 n_X6_isSign ⟨by decide, by decide⟩ (Nat.le_of_ble_eq_true rfl) dX6_isProgram_22) (zv_I fun v22 => ?_) (fun q => zx_thr x (fun z hz => (htab z hz).elim) q)
      refine z_if_eq (pc := 25) (tgt := 36) x dX6_isProgram_25 rfl (fun _ => ?_) (fun _ => ?_)
      · exact z_sub [0, 1] rfl (w_X6_isProgram_36 x hl hret hnm htab a0 a1)
      · refine z_aload_n (pc := 28) x 0 dX6_isProgram_28 rfl rfl ?_
        refine z_call (pc := 29) (z_canV (pc := 29) (As := []) (st := []) x (ci := 34) rfl (fun b => m_X6_readsCommand hl (some b)) q3203 q3205 (z_selP x (ci := 34) rfl (by decide) (zNi_inst x q2780) q3204 q3205) q121 q3206 n_X6_readsCommand ⟨by decide, by decide⟩ (Nat.le_of_ble_eq_true rfl) dX6_isProgram_29) (zv_I fun v29 => ?_) (fun q => zx_thr x (fun z hz => (htab z hz).elim) q)
        refine z_istore_n (pc := 32) (lv' := [(1, zI v29), (0, zP a0)]) x dX6_isProgram_32 rfl (Nat.le_of_ble_eq_true rfl) rfl ?_
        refine z_goto (pc := 33) (tgt := 15) x dX6_isProgram_33 rfl ?_
        exact z_sub [1, 0] rfl (h15 a0 v29)
def s_X6_isProgram (E : zE) (a0 : Option Nat) : zM := zSet E a0 34 24 (zVal (zI (0 : Int32))) (zSet E a0 34 25 (zVal (zI (0 : Int32))) (zC (zRv a0 [(34, fun b => s_X6_readsCommand E (some b))]) zThr (zKI (fun v11 => s_X6_isProgram_15 E zN a0 v11))))
theorem m_X6_isProgram {l : Launch} {E : zE} {D : va_G} {tA : Nat → ClassId} (hl : l.stackTraces = false) (a0 : Option Nat) : zMet l E D tA yX6_isProgram (ws_ yX6_isProgram cX6_isProgram 2 (Option.some Jvm.ClassFile.FieldType.boolean)) 17 (s_X6_isProgram E a0) [zP a0] := by
  refine z_met hl (by decide +kernel) (by rw [zSl_len]; exact (Nat.le_of_ble_eq_true rfl)) fun p e R s m args below meth c k0 x hret hnm htab => ?_
  refine z_lv [(0, zP a0)] rfl ?_
  unfold s_X6_isProgram
  refine z_aload_n (pc := 0) x 0 dX6_isProgram_0 rfl rfl ?_
  refine z_iconst (pc := 1) x (v := (0 : Int32)) dX6_isProgram_1 rfl ?_
  refine z_set (pc := 2) (v := zI (0 : Int32)) x in_X6 tyX6 tyX6_ok nmX6 (ci := 34) rfl (k := 24) (by decide) q2809 (fun _ h => h) rfl rfl rfl dX6_isProgram_2 ?_
  refine z_aload_n (pc := 5) x 0 dX6_isProgram_5 rfl rfl ?_
  refine z_iconst (pc := 6) x (v := (0 : Int32)) dX6_isProgram_6 rfl ?_
  refine z_set (pc := 7) (v := zI (0 : Int32)) x in_X6 tyX6 tyX6_ok nmX6 (ci := 34) rfl (k := 25) (by decide) q2810 (fun _ h => h) rfl rfl rfl dX6_isProgram_7 ?_
  refine z_aload_n (pc := 10) x 0 dX6_isProgram_10 rfl rfl ?_
  refine z_call (pc := 11) (z_canV (pc := 11) (As := []) (st := []) x (ci := 34) rfl (fun b => m_X6_readsCommand hl (some b)) q3203 q3205 (z_selP x (ci := 34) rfl (by decide) (zNi_inst x q2780) q3204 q3205) q121 q3206 n_X6_readsCommand ⟨by decide, by decide⟩ (Nat.le_of_ble_eq_true rfl) dX6_isProgram_11) (zv_I fun v11 => ?_) (fun q => zx_thr x (fun z hz => (htab z hz).elim) q)
  refine z_istore_n (pc := 14) (lv' := [(1, zI v11), (0, zP a0)]) x dX6_isProgram_14 rfl (Nat.le_of_ble_eq_true rfl) rfl ?_
  exact z_sub [1, 0] rfl (w_X6_isProgram_15 x hl hret hnm htab zN a0 v11)
/-! X6_writesRule -/
def s_X6_writesRule_2 (E : zE) : Nat → Option Nat → Int32 → Int32 → Int32 → zM
  | 0, _, _, _, _ => zFail
  | n + 1, a0, a1, a2, a3 => if (76 : Int32) ≤ a3 then (zRet none) else (zGetR a0 34 0 (fun v9 => zGetR a0 34 22 (fun v23 => zGaI 0 v23 (a1 + a3) (fun v29 => zSaI E 0 v9 (((444 : Int32) + ((76 : Int32) * a2)) + a3) v29 ((s_X6_writesRule_2 E n) a0 a1 a2 (a3 + (1 : Int32)))))))
theorem w_X6_writesRule_2 (x : zCx p l R s m args meth c E D tA cX6_writesRule 4 yX6_writesRule.cls 9) (hl : l.stackTraces = false) (hret : meth.sig.returnType = (Option.none : Option Jvm.ClassFile.FieldType)) (hnm : meth.name = yX6_writesRule.name) (htab : ∀ z ∈ c.exceptionTable.toList, False) : ∀ (n : Nat) (a0 : Option Nat) (a1 : Int32) (a2 : Int32) (a3 : Int32), zW p l e R s m args below meth c E D tA 4 k0 (s_X6_writesRule_2 E n a0 a1 a2 a3) [(0, zP a0), (1, zI a1), (2, zI a2), (3, zI a3)] 2 [] := by
  intro n
  induction n with
  | zero => intro a0 a1 a2 a3; exact z_fail
  | succ n h2 =>
    intro a0 a1 a2 a3
    rw [s_X6_writesRule_2]
    refine z_iload_n (pc := 2) x 3 dX6_writesRule_2 rfl rfl ?_
    refine z_bipush (pc := 3) x (v := (76 : Int32)) dX6_writesRule_3 rfl ?_
    refine z_icmp_ge (pc := 5) (tgt := 37) x dX6_writesRule_5 rfl (fun _ => ?_) (fun _ => ?_)
    · exact z_vret (pc := 37) x hret dX6_writesRule_37
    · refine z_aload_n (pc := 8) x 0 dX6_writesRule_8 rfl rfl ?_
      refine z_get (pc := 9) (fun _ _ h => zAsR_eq h) x in_X6 (ci := 34) rfl (k := 0) (by decide) q2785 (fun _ h => h) dX6_writesRule_9 fun v9 => ?_
      refine z_sipush (pc := 12) x (v := (444 : Int32)) dX6_writesRule_12 rfl ?_
      refine z_bipush (pc := 15) x (v := (76 : Int32)) dX6_writesRule_15 rfl ?_
      refine z_iload_n (pc := 17) x 2 dX6_writesRule_17 rfl rfl ?_
      refine z_imul (pc := 18) x dX6_writesRule_18 ?_
      refine z_iadd (pc := 19) x dX6_writesRule_19 ?_
      refine z_iload_n (pc := 20) x 3 dX6_writesRule_20 rfl rfl ?_
      refine z_iadd (pc := 21) x dX6_writesRule_21 ?_
      refine z_aload_n (pc := 22) x 0 dX6_writesRule_22 rfl rfl ?_
      refine z_get (pc := 23) (fun _ _ h => zAsR_eq h) x in_X6 (ci := 34) rfl (k := 22) (by decide) q2807 (fun _ h => h) dX6_writesRule_23 fun v23 => ?_
      refine z_iload_n (pc := 26) x 1 dX6_writesRule_26 rfl rfl ?_
      refine z_iload_n (pc := 27) x 3 dX6_writesRule_27 rfl rfl ?_
      refine z_iadd (pc := 28) x dX6_writesRule_28 ?_
      refine z_iald (pc := 29) x (t := 0) rfl dX6_writesRule_29 fun v29 => ?_
      refine z_iast (pc := 30) x (t := 0) rfl dX6_writesRule_30 ?_
      refine z_iinc (pc := 31) (lv' := [(3, zI (a3 + (1 : Int32))), (0, zP a0), (1, zI a1), (2, zI a2)]) x (v2 := (a3 + (1 : Int32))) 3 dX6_writesRule_31 rfl rfl (Nat.le_of_ble_eq_true rfl) rfl ?_
      refine z_goto (pc := 34) (tgt := 2) x dX6_writesRule_34 rfl ?_
      exact z_sub [1, 2, 3, 0] rfl (h2 a0 a1 a2 (a3 + (1 : Int32)))
def s_X6_writesRule (E : zE) (a0 : Option Nat) (a1 : Int32) (a2 : Int32) : zM := s_X6_writesRule_2 E zN a0 a1 a2 (0 : Int32)
theorem m_X6_writesRule {l : Launch} {E : zE} {D : va_G} {tA : Nat → ClassId} (hl : l.stackTraces = false) (a0 : Option Nat) (a1 : Int32) (a2 : Int32) : zMet l E D tA yX6_writesRule (ws_ yX6_writesRule cX6_writesRule 4 (Option.none : Option Jvm.ClassFile.FieldType)) 9 (s_X6_writesRule E a0 a1 a2) [zP a0, zI a1, zI a2] := by
  refine z_met hl (by decide +kernel) (by rw [zSl_len]; exact (Nat.le_of_ble_eq_true rfl)) fun p e R s m args below meth c k0 x hret hnm htab => ?_
  refine z_lv [(0, zP a0), (1, zI a1), (2, zI a2)] rfl ?_
  unfold s_X6_writesRule
  refine z_iconst (pc := 0) x (v := (0 : Int32)) dX6_writesRule_0 rfl ?_
  refine z_istore_n (pc := 1) (lv' := [(3, zI (0 : Int32)), (0, zP a0), (1, zI a1), (2, zI a2)]) x dX6_writesRule_1 rfl (Nat.le_of_ble_eq_true rfl) rfl ?_
  exact z_sub [1, 2, 3, 0] rfl (w_X6_writesRule_2 x hl hret hnm htab zN a0 a1 a2 (0 : Int32))
/-! X6_occurs -/
def s_X6_occurs_81 (E : zE) (k3 : Option Nat → Int32 → Int32 → Int32 → Int32 → zM) (a0 : Option Nat) (a1 : Int32) (a2 : Int32) (a3 : Int32) (a4 : Int32) : zM := k3 a0 a1 a2 a3 (a4 + (1 : Int32))
theorem w_X6_occurs_81 (x : zCx p l R s m args meth c E D tA cX6_occurs 6 yX6_occurs.cls 11) (hl : l.stackTraces = false) (hret : meth.sig.returnType = (Option.some Jvm.ClassFile.FieldType.boolean)) (hnm : meth.name = yX6_occurs.name) (htab : ∀ z ∈ c.exceptionTable.toList, False) {k3 : Option Nat → Int32 → Int32 → Int32 → Int32 → zM} (h3 : ∀ (a0 : Option Nat) (a1 : Int32) (a2 : Int32) (a3 : Int32) (a4 : Int32) , zW p l e R s m args below meth c E D tA 6 k0 (k3 a0 a1 a2 a3 a4) [(0, zP a0), (1, zI a1), (2, zI a2), (3, zI a3), (4, zI a4)] 3 []) (a0 : Option Nat) (a1 : Int32) (a2 : Int32) (a3 : Int32) (a4 : Int32) : zW p l e R s m args below meth c E D tA 6 k0 (s_X6_occurs_81 E k3 a0 a1 a2 a3 a4) [(0, zP a0), (1, zI a1), (2, zI a2), (3, zI a3), (4, zI a4)] 81 [] := by
  unfold s_X6_occurs_81
  refine z_iinc (pc := 81) (lv' := [(4, zI (a4 + (1 : Int32))), (0, zP a0), (1, zI a1), (2, zI a2), (3, zI a3)]) x (v2 := (a4 + (1 : Int32))) 4 dX6_occurs_81 rfl rfl (Nat.le_of_ble_eq_true rfl) rfl ?_
  refine z_goto (pc := 84) (tgt := 3) x dX6_occurs_84 rfl ?_
  exact z_sub [1, 2, 3, 4, 0] rfl (h3 a0 a1 a2 a3 (a4 + (1 : Int32)))
def s_X6_occurs_43 (E : zE) (k3 : Option Nat → Int32 → Int32 → Int32 → Int32 → zM) (a0 : Option Nat) (a1 : Int32) (a2 : Int32) (a3 : Int32) (a4 : Int32) (b0 : Int32) : zM := if b0 = 0 then (s_X6_occurs_81 E k3 a0 a1 a2 a3 a4) else (if a3 = 0 then (zC (zRv a0 [(34, fun b => s_X6_literal E (some b) a1 a4 (0 : Int32))]) zThr (zKI (fun v59 => if v59 = 0 then (zRetN .boolean (1 : Int32)) else (s_X6_occurs_81 E k3 a0 a1 a2 a3 a4)))) else (zC (zRv a0 [(34, fun b => s_X6_literal E (some b) a1 a4 (0 : Int32))]) zThr (zKI (fun v73 => if v73 ≤ 0 then (s_X6_occurs_81 E k3 a0 a1 a2 a3 a4) else (zRetN .boolean (1 : Int32))))))
theorem w_X6_occurs_43 (x : zCx p l R s m args meth c E D tA cX6_occurs 6 yX6_occurs.cls 11) (hl : l.stackTraces = false) (hret : meth.sig.returnType = (Option.some Jvm.ClassFile.FieldType.boolean)) (hnm : meth.name = yX6_occurs.name) (htab : ∀ z ∈ c.exceptionTable.toList, False) {k3 : Option Nat → Int32 → Int32 → Int32 → Int32 → zM} (h3 : ∀ (a0 : Option Nat) (a1 : Int32) (a2 : Int32) (a3 : Int32) (a4 : Int32) , zW p l e R s m args below meth c E D tA 6 k0 (k3 a0 a1 a2 a3 a4) [(0, zP a0), (1, zI a1), (2, zI a2), (3, zI a3), (4, zI a4)] 3 []) (a0 : Option Nat) (a1 : Int32) (a2 : Int32) (a3 : Int32) (a4 : Int32) (b0 : Int32) : zW p l e R s m args below meth c E D tA 6 k0 (s_X6_occurs_43 E k3 a0 a1 a2 a3 a4 b0) [(0, zP a0), (1, zI a1), (2, zI a2), (3, zI a3), (4, zI a4)] 43 [zI b0] := by
  unfold s_X6_occurs_43
  refine z_istore (pc := 43) (lv' := [(5, zI b0), (0, zP a0), (1, zI a1), (2, zI a2), (3, zI a3), (4, zI a4)]) x dX6_occurs_43 (Nat.le_of_ble_eq_true rfl) rfl ?_
  refine z_iload (pc := 45) x 0 dX6_occurs_45 rfl ?_
  refine z_if_eq (pc := 47) (tgt := 81) x dX6_occurs_47 rfl (fun _ => ?_) (fun _ => ?_)
  · exact z_sub [1, 2, 3, 4, 5] rfl (w_X6_occurs_81 x hl hret hnm htab h3 a0 a1 a2 a3 a4)
  · refine z_iload_n (pc := 50) x 4 dX6_occurs_50 rfl rfl ?_
    refine z_if_ne (pc := 51) (tgt := 68) x dX6_occurs_51 rfl (fun _ => ?_) (fun _ => ?_)
    · refine z_aload_n (pc := 54) x 1 dX6_occurs_54 rfl rfl ?_
      refine z_iload_n (pc := 55) x 2 dX6_occurs_55 rfl rfl ?_
      refine z_iload (pc := 56) x 5 dX6_occurs_56 rfl ?_
      refine z_iconst (pc := 58) x (v := (0 : Int32)) dX6_occurs_58 rfl ?_
      refine z_call (pc := 59) (z_canV (pc := 59) (As := [zI a1, zI a4, zI (0 : Int32)]) (st := []) x (ci := 34) rfl (fun b => m_X6_literal hl (some b) a1 a4 (0 : Int32)) q2943 q2945 (z_selP x (ci := 34) rfl (by decide) (zNi_inst x q2780) q2944 q2945) q121 q2946 n_X6_literal ⟨by decide, by decide⟩ (Nat.le_of_ble_eq_true rfl) dX6_occurs_59) (zv_I fun v59 => ?_) (fun q => zx_thr x (fun z hz => (htab z hz).elim) q)
      refine z_if_ne (pc := 62) (tgt := 81) x dX6_occurs_62 rfl (fun _ => ?_) (fun _ => ?_)
      · refine z_goto (pc := 65) (tgt := 79) x dX6_occurs_65 rfl ?_
        refine z_iconst (pc := 79) x (v := (1 : Int32)) dX6_occurs_79 rfl ?_
        exact z_zret (pc := 80) x hret dX6_occurs_80
      · exact z_sub [1, 2, 3, 4, 5] rfl (w_X6_occurs_81 x hl hret hnm htab h3 a0 a1 a2 a3 a4)
    · refine z_aload_n (pc := 68) x 1 dX6_occurs_68 rfl rfl ?_
      refine z_iload_n (pc := 69) x 2 dX6_occurs_69 rfl rfl ?_
      refine z_iload (pc := 70) x 5 dX6_occurs_70 rfl ?_
      refine z_iconst (pc := 72) x (v := (0 : Int32)) dX6_occurs_72 rfl ?_
      refine z_call (pc := 73) (z_canV (pc := 73) (As := [zI a1, zI a4, zI (0 : Int32)]) (st := []) x (ci := 34) rfl (fun b => m_X6_literal hl (some b) a1 a4 (0 : Int32)) q2943 q2945 (z_selP x (ci := 34) rfl (by decide) (zNi_inst x q2780) q2944 q2945) q121 q2946 n_X6_literal ⟨by decide, by decide⟩ (Nat.le_of_ble_eq_true rfl) dX6_occurs_73) (zv_I fun v73 => ?_) (fun q => zx_thr x (fun z hz => (htab z hz).elim) q)
      refine z_if_le (pc := 76) (tgt := 81) x dX6_occurs_76 rfl (fun _ => ?_) (fun _ => ?_)
      · exact z_sub [1, 2, 3, 4, 5] rfl (w_X6_occurs_81 x hl hret hnm htab h3 a0 a1 a2 a3 a4)
      · refine z_iconst (pc := 79) x (v := (1 : Int32)) dX6_occurs_79 rfl ?_
        exact z_zret (pc := 80) x hret dX6_occurs_80
def s_X6_occurs_38 (E : zE) (k3 : Option Nat → Int32 → Int32 → Int32 → Int32 → zM) (a0 : Option Nat) (a1 : Int32) (a2 : Int32) (a3 : Int32) (a4 : Int32) : zM := s_X6_occurs_43 E k3 a0 a1 a2 a3 a4 (1 : Int32)
theorem w_X6_occurs_38 (x : zCx p l R s m args meth c E D tA cX6_occurs 6 yX6_occurs.cls 11) (hl : l.stackTraces = false) (hret : meth.sig.returnType = (Option.some Jvm.ClassFile.FieldType.boolean)) (hnm : meth.name = yX6_occurs.name) (htab : ∀ z ∈ c.exceptionTable.toList, False) {k3 : Option Nat → Int32 → Int32 → Int32 → Int32 → zM} (h3 : ∀ (a0 : Option Nat) (a1 : Int32) (a2 : Int32) (a3 : Int32) (a4 : Int32) , zW p l e R s m args below meth c E D tA 6 k0 (k3 a0 a1 a2 a3 a4) [(0, zP a0), (1, zI a1), (2, zI a2), (3, zI a3), (4, zI a4)] 3 []) (a0 : Option Nat) (a1 : Int32) (a2 : Int32) (a3 : Int32) (a4 : Int32) : zW p l e R s m args below meth c E D tA 6 k0 (s_X6_occurs_38 E k3 a0 a1 a2 a3 a4) [(0, zP a0), (1, zI a1), (2, zI a2), (3, zI a3), (4, zI a4)] 38 [] := by
  unfold s_X6_occurs_38
  refine z_iconst (pc := 38) x (v := (1 : Int32)) dX6_occurs_38 rfl ?_
  refine z_goto (pc := 39) (tgt := 43) x dX6_occurs_39 rfl ?_
  exact z_sub [0, 1, 2, 3, 4] rfl (w_X6_occurs_43 x hl hret hnm htab h3 a0 a1 a2 a3 a4 (1 : Int32))
def s_X6_occurs_3 (E : zE) : Nat → Option Nat → Int32 → Int32 → Int32 → Int32 → zM
  | 0, _, _, _, _, _ => zFail
  | n + 1, a0, a1, a2, a3, a4 => zC (zRv a0 [(34, fun b => s_X6_of E (some b) a1 (3 : Int32))]) zThr (zKI (fun v8 => if v8 ≤ a4 then (zRetN .boolean (0 : Int32)) else (zC (zRv a0 [(34, fun b => s_X6_literal E (some b) a1 a4 (2 : Int32))]) zThr (zKI (fun v19 => if v19 = a2 then (s_X6_occurs_38 E (s_X6_occurs_3 E n) a0 a1 a2 a3 a4) else (zC (zRv a0 [(34, fun b => s_X6_literal E (some b) a1 a4 (3 : Int32))]) zThr (zKI (fun v31 => if v31 = a2 then (s_X6_occurs_38 E (s_X6_occurs_3 E n) a0 a1 a2 a3 a4) else (s_X6_occurs_43 E (s_X6_occurs_3 E n) a0 a1 a2 a3 a4 (0 : Int32))))))))))
theorem w_X6_occurs_3 (x : zCx p l R s m args meth c E D tA cX6_occurs 6 yX6_occurs.cls 11) (hl : l.stackTraces = false) (hret : meth.sig.returnType = (Option.some Jvm.ClassFile.FieldType.boolean)) (hnm : meth.name = yX6_occurs.name) (htab : ∀ z ∈ c.exceptionTable.toList, False) : ∀ (n : Nat) (a0 : Option Nat) (a1 : Int32) (a2 : Int32) (a3 : Int32) (a4 : Int32), zW p l e R s m args below meth c E D tA 6 k0 (s_X6_occurs_3 E n a0 a1 a2 a3 a4) [(0, zP a0), (1, zI a1), (2, zI a2), (3, zI a3), (4, zI a4)] 3 [] := by
  intro n
  induction n with
  | zero => intro a0 a1 a2 a3 a4; exact z_fail
  | succ n h3 =>
    intro a0 a1 a2 a3 a4
    rw [s_X6_occurs_3]
    refine z_iload (pc := 3) x 4 dX6_occurs_3 rfl ?_
    refine z_aload_n (pc := 5) x 0 dX6_occurs_5 rfl rfl ?_
    refine z_iload_n (pc := 6) x 1 dX6_occurs_6 rfl rfl ?_
    refine z_iconst (pc := 7) x (v := (3 : Int32)) dX6_occurs_7 rfl ?_
    refine z_call (pc := 8) (z_canV (pc := 8) (As := [zI a1, zI (3 : Int32)]) (st := [zI a4]) x (ci := 34) rfl (fun b => m_X6_of hl (some b) a1 (3 : Int32)) q2939 q2941 (z_selP x (ci := 34) rfl (by decide) (zNi_inst x q2780) q2940 q2941) q121 q2942 n_X6_of ⟨by decide, by decide⟩ (Nat.le_of_ble_eq_true rfl) dX6_occurs_8) (zv_I fun v8 => ?_) (fun q => zx_thr x (fun z hz => (htab z hz).elim) q)
    refine z_icmp_ge (pc := 11) (tgt := 87) x dX6_occurs_11 rfl (fun _ => ?_) (fun _ => ?_)
    · refine z_iconst (pc := 87) x (v := (0 : Int32)) dX6_occurs_87 rfl ?_
      exact z_zret (pc := 88) x hret dX6_occurs_88
    · refine z_aload_n (pc := 14) x 0 dX6_occurs_14 rfl rfl ?_
      refine z_iload_n (pc := 15) x 1 dX6_occurs_15 rfl rfl ?_
      refine z_iload (pc := 16) x 4 dX6_occurs_16 rfl ?_
      refine z_iconst (pc := 18) x (v := (2 : Int32)) dX6_occurs_18 rfl ?_
      refine z_call (pc := 19) (z_canV (pc := 19) (As := [zI a1, zI a4, zI (2 : Int32)]) (st := []) x (ci := 34) rfl (fun b => m_X6_literal hl (some b) a1 a4 (2 : Int32)) q2943 q2945 (z_selP x (ci := 34) rfl (by decide) (zNi_inst x q2780) q2944 q2945) q121 q2946 n_X6_literal ⟨by decide, by decide⟩ (Nat.le_of_ble_eq_true rfl) dX6_occurs_19) (zv_I fun v19 => ?_) (fun q => zx_thr x (fun z hz => (htab z hz).elim) q)
      refine z_iload_n (pc := 22) x 2 dX6_occurs_22 rfl rfl ?_
      refine z_icmp_eq (pc := 23) (tgt := 38) x dX6_occurs_23 rfl (fun _ => ?_) (fun _ => ?_)
      · exact z_sub [0, 1, 2, 3, 4] rfl (w_X6_occurs_38 x hl hret hnm htab h3 a0 a1 a2 a3 a4)
      · refine z_aload_n (pc := 26) x 0 dX6_occurs_26 rfl rfl ?_
        refine z_iload_n (pc := 27) x 1 dX6_occurs_27 rfl rfl ?_
        refine z_iload (pc := 28) x 4 dX6_occurs_28 rfl ?_
        refine z_iconst (pc := 30) x (v := (3 : Int32)) dX6_occurs_30 rfl ?_
        refine z_call (pc := 31) (z_canV (pc := 31) (As := [zI a1, zI a4, zI (3 : Int32)]) (st := []) x (ci := 34) rfl (fun b => m_X6_literal hl (some b) a1 a4 (3 : Int32)) q2943 q2945 (z_selP x (ci := 34) rfl (by decide) (zNi_inst x q2780) q2944 q2945) q121 q2946 n_X6_literal ⟨by decide, by decide⟩ (Nat.le_of_ble_eq_true rfl) dX6_occurs_31) (zv_I fun v31 => ?_) (fun q => zx_thr x (fun z hz => (htab z hz).elim) q)
        refine z_iload_n (pc := 34) x 2 dX6_occurs_34 rfl rfl ?_
        refine z_icmp_ne (pc := 35) (tgt := 42) x dX6_occurs_35 rfl (fun _ => ?_) (fun _ => ?_)
        · exact z_sub [0, 1, 2, 3, 4] rfl (w_X6_occurs_38 x hl hret hnm htab h3 a0 a1 a2 a3 a4)
        · refine z_iconst (pc := 42) x (v := (0 : Int32)) dX6_occurs_42 rfl ?_
          exact z_sub [0, 1, 2, 3, 4] rfl (w_X6_occurs_43 x hl hret hnm htab h3 a0 a1 a2 a3 a4 (0 : Int32))
def s_X6_occurs (E : zE) (a0 : Option Nat) (a1 : Int32) (a2 : Int32) (a3 : Int32) : zM := s_X6_occurs_3 E zN a0 a1 a2 a3 (0 : Int32)
theorem m_X6_occurs {l : Launch} {E : zE} {D : va_G} {tA : Nat → ClassId} (hl : l.stackTraces = false) (a0 : Option Nat) (a1 : Int32) (a2 : Int32) (a3 : Int32) : zMet l E D tA yX6_occurs (ws_ yX6_occurs cX6_occurs 6 (Option.some Jvm.ClassFile.FieldType.boolean)) 11 (s_X6_occurs E a0 a1 a2 a3) [zP a0, zI a1, zI a2, zI a3] := by
  refine z_met hl (by decide +kernel) (by rw [zSl_len]; exact (Nat.le_of_ble_eq_true rfl)) fun p e R s m args below meth c k0 x hret hnm htab => ?_
  refine z_lv [(0, zP a0), (1, zI a1), (2, zI a2), (3, zI a3)] rfl ?_
  unfold s_X6_occurs
  refine z_iconst (pc := 0) x (v := (0 : Int32)) dX6_occurs_0 rfl ?_
  refine z_istore (pc := 1) (lv' := [(4, zI (0 : Int32)), (0, zP a0), (1, zI a1), (2, zI a2), (3, zI a3)]) x dX6_occurs_1 (Nat.le_of_ble_eq_true rfl) rfl ?_
  exact z_sub [1, 2, 3, 4, 0] rfl (w_X6_occurs_3 x hl hret hnm htab zN a0 a1 a2 a3 (0 : Int32))
/-! X6_unsafe -/
def s_X6_unsafe_64 (E : zE) (k3 : Option Nat → Int32 → Int32 → zM) (a0 : Option Nat) (a1 : Int32) (a2 : Int32) : zM := k3 a0 a1 (a2 + (1 : Int32))
theorem w_X6_unsafe_64 (x : zCx p l R s m args meth c E D tA cX6_unsafe 4 yX6_unsafe.cls 12) (hl : l.stackTraces = false) (hret : meth.sig.returnType = (Option.some Jvm.ClassFile.FieldType.int)) (hnm : meth.name = yX6_unsafe.name) (htab : ∀ z ∈ c.exceptionTable.toList, False) {k3 : Option Nat → Int32 → Int32 → zM} (h3 : ∀ (a0 : Option Nat) (a1 : Int32) (a2 : Int32) , zW p l e R s m args below meth c E D tA 4 k0 (k3 a0 a1 a2) [(0, zP a0), (1, zI a1), (2, zI a2)] 3 []) (a0 : Option Nat) (a1 : Int32) (a2 : Int32) : zW p l e R s m args below meth c E D tA 4 k0 (s_X6_unsafe_64 E k3 a0 a1 a2) [(0, zP a0), (1, zI a1), (2, zI a2)] 64 [] := by
  unfold s_X6_unsafe_64
  refine z_iinc (pc := 64) (lv' := [(2, zI (a2 + (1 : Int32))), (0, zP a0), (1, zI a1)]) x (v2 := (a2 + (1 : Int32))) 2 dX6_unsafe_64 rfl rfl (Nat.le_of_ble_eq_true rfl) rfl ?_
  refine z_goto (pc := 67) (tgt := 3) x dX6_unsafe_67 rfl ?_
  exact z_sub [1, 2, 0] rfl (h3 a0 a1 (a2 + (1 : Int32)))
def s_X6_unsafe_49 (E : zE) (k3 : Option Nat → Int32 → Int32 → zM) (a0 : Option Nat) (a1 : Int32) (a2 : Int32) : zM := zC (zRv a0 [(34, fun b => s_X6_occurs E (some b) a1 a2 (0 : Int32))]) zThr (zKI (fun v53 => if v53 = 0 then (zRet (some (.int (a2 - (10 : Int32))))) else (s_X6_unsafe_64 E k3 a0 a1 a2)))
theorem w_X6_unsafe_49 (x : zCx p l R s m args meth c E D tA cX6_unsafe 4 yX6_unsafe.cls 12) (hl : l.stackTraces = false) (hret : meth.sig.returnType = (Option.some Jvm.ClassFile.FieldType.int)) (hnm : meth.name = yX6_unsafe.name) (htab : ∀ z ∈ c.exceptionTable.toList, False) {k3 : Option Nat → Int32 → Int32 → zM} (h3 : ∀ (a0 : Option Nat) (a1 : Int32) (a2 : Int32) , zW p l e R s m args below meth c E D tA 4 k0 (k3 a0 a1 a2) [(0, zP a0), (1, zI a1), (2, zI a2)] 3 []) (a0 : Option Nat) (a1 : Int32) (a2 : Int32) : zW p l e R s m args below meth c E D tA 4 k0 (s_X6_unsafe_49 E k3 a0 a1 a2) [(0, zP a0), (1, zI a1), (2, zI a2)] 49 [] := by
  unfold s_X6_unsafe_49
  refine z_aload_n (pc := 49) x 0 dX6_unsafe_49 rfl rfl ?_
  refine z_iload_n (pc := 50) x 1 dX6_unsafe_50 rfl rfl ?_
  refine z_iload_n (pc := 51) x 2 dX6_unsafe_51 rfl rfl ?_
  refine z_iconst (pc := 52) x (v := (0 : Int32)) dX6_unsafe_52 rfl ?_
  refine z_call (pc := 53) (z_canV (pc := 53) (As := [zI a1, zI a2, zI (0 : Int32)]) (st := []) x (ci := 34) rfl (fun b => m_X6_occurs hl (some b) a1 a2 (0 : Int32)) q3265 q3267 (z_selP x (ci := 34) rfl (by decide) (zNi_inst x q2780) q3266 q3267) q121 q3268 n_X6_occurs ⟨by decide, by decide⟩ (Nat.le_of_ble_eq_true rfl) dX6_unsafe_53) (zv_I fun v53 => ?_) (fun q => zx_thr x (fun z hz => (htab z hz).elim) q)
  refine z_if_ne (pc := 56) (tgt := 64) x dX6_unsafe_56 rfl (fun _ => ?_) (fun _ => ?_)
  · refine z_iload_n (pc := 59) x 2 dX6_unsafe_59 rfl rfl ?_
    refine z_bipush (pc := 60) x (v := (10 : Int32)) dX6_unsafe_60 rfl ?_
    refine z_isub (pc := 62) x dX6_unsafe_62 ?_
    exact z_iret (pc := 63) x hret dX6_unsafe_63
  · exact z_sub [0, 1, 2] rfl (w_X6_unsafe_64 x hl hret hnm htab h3 a0 a1 a2)
def s_X6_unsafe_34 (E : zE) (k3 : Option Nat → Int32 → Int32 → zM) (a0 : Option Nat) (a1 : Int32) (a2 : Int32) (b0 : Int32) : zM := if b0 = 0 then (zC (zRv a0 [(34, fun b => s_X6_occurs E (some b) a1 a2 (1 : Int32))]) zThr (zKI (fun v43 => if v43 = 0 then (s_X6_unsafe_64 E k3 a0 a1 a2) else (s_X6_unsafe_49 E k3 a0 a1 a2)))) else (s_X6_unsafe_49 E k3 a0 a1 a2)
theorem w_X6_unsafe_34 (x : zCx p l R s m args meth c E D tA cX6_unsafe 4 yX6_unsafe.cls 12) (hl : l.stackTraces = false) (hret : meth.sig.returnType = (Option.some Jvm.ClassFile.FieldType.int)) (hnm : meth.name = yX6_unsafe.name) (htab : ∀ z ∈ c.exceptionTable.toList, False) {k3 : Option Nat → Int32 → Int32 → zM} (h3 : ∀ (a0 : Option Nat) (a1 : Int32) (a2 : Int32) , zW p l e R s m args below meth c E D tA 4 k0 (k3 a0 a1 a2) [(0, zP a0), (1, zI a1), (2, zI a2)] 3 []) (a0 : Option Nat) (a1 : Int32) (a2 : Int32) (b0 : Int32) : zW p l e R s m args below meth c E D tA 4 k0 (s_X6_unsafe_34 E k3 a0 a1 a2 b0) [(0, zP a0), (1, zI a1), (2, zI a2)] 34 [zI b0] := by
  unfold s_X6_unsafe_34
  refine z_istore_n (pc := 34) (lv' := [(3, zI b0), (0, zP a0), (1, zI a1), (2, zI a2)]) x dX6_unsafe_34 rfl (Nat.le_of_ble_eq_true rfl) rfl ?_
  refine z_iload_n (pc := 35) x 0 dX6_unsafe_35 rfl rfl ?_
  refine z_if_ne (pc := 36) (tgt := 49) x dX6_unsafe_36 rfl (fun _ => ?_) (fun _ => ?_)
  · refine z_aload_n (pc := 39) x 1 dX6_unsafe_39 rfl rfl ?_
    refine z_iload_n (pc := 40) x 2 dX6_unsafe_40 rfl rfl ?_
    refine z_iload_n (pc := 41) x 3 dX6_unsafe_41 rfl rfl ?_
    refine z_iconst (pc := 42) x (v := (1 : Int32)) dX6_unsafe_42 rfl ?_
    refine z_call (pc := 43) (z_canV (pc := 43) (As := [zI a1, zI a2, zI (1 : Int32)]) (st := []) x (ci := 34) rfl (fun b => m_X6_occurs hl (some b) a1 a2 (1 : Int32)) q3265 q3267 (z_selP x (ci := 34) rfl (by decide) (zNi_inst x q2780) q3266 q3267) q121 q3268 n_X6_occurs ⟨by decide, by decide⟩ (Nat.le_of_ble_eq_true rfl) dX6_unsafe_43) (zv_I fun v43 => ?_) (fun q => zx_thr x (fun z hz => (htab z hz).elim) q)
    refine z_if_eq (pc := 46) (tgt := 64) x dX6_unsafe_46 rfl (fun _ => ?_) (fun _ => ?_)
    · exact z_sub [1, 2, 3] rfl (w_X6_unsafe_64 x hl hret hnm htab h3 a0 a1 a2)
    · exact z_sub [1, 2, 3] rfl (w_X6_unsafe_49 x hl hret hnm htab h3 a0 a1 a2)
  · exact z_sub [1, 2, 3] rfl (w_X6_unsafe_49 x hl hret hnm htab h3 a0 a1 a2)
def s_X6_unsafe_29 (E : zE) (k3 : Option Nat → Int32 → Int32 → zM) (a0 : Option Nat) (a1 : Int32) (a2 : Int32) : zM := s_X6_unsafe_34 E k3 a0 a1 a2 (1 : Int32)
theorem w_X6_unsafe_29 (x : zCx p l R s m args meth c E D tA cX6_unsafe 4 yX6_unsafe.cls 12) (hl : l.stackTraces = false) (hret : meth.sig.returnType = (Option.some Jvm.ClassFile.FieldType.int)) (hnm : meth.name = yX6_unsafe.name) (htab : ∀ z ∈ c.exceptionTable.toList, False) {k3 : Option Nat → Int32 → Int32 → zM} (h3 : ∀ (a0 : Option Nat) (a1 : Int32) (a2 : Int32) , zW p l e R s m args below meth c E D tA 4 k0 (k3 a0 a1 a2) [(0, zP a0), (1, zI a1), (2, zI a2)] 3 []) (a0 : Option Nat) (a1 : Int32) (a2 : Int32) : zW p l e R s m args below meth c E D tA 4 k0 (s_X6_unsafe_29 E k3 a0 a1 a2) [(0, zP a0), (1, zI a1), (2, zI a2)] 29 [] := by
  unfold s_X6_unsafe_29
  refine z_iconst (pc := 29) x (v := (1 : Int32)) dX6_unsafe_29 rfl ?_
  refine z_goto (pc := 30) (tgt := 34) x dX6_unsafe_30 rfl ?_
  exact z_sub [0, 1, 2] rfl (w_X6_unsafe_34 x hl hret hnm htab h3 a0 a1 a2 (1 : Int32))
def s_X6_unsafe_3 (E : zE) : Nat → Option Nat → Int32 → Int32 → zM
  | 0, _, _, _ => zFail
  | n + 1, a0, a1, a2 => if (13 : Int32) ≤ a2 then (zRet (some (.int (-1 : Int32)))) else (zC (zRv a0 [(34, fun b => s_X6_of E (some b) a1 (1 : Int32))]) zThr (zKI (fun v12 => if v12 = a2 then (s_X6_unsafe_29 E (s_X6_unsafe_3 E n) a0 a1 a2) else (zC (zRv a0 [(34, fun b => s_X6_of E (some b) a1 (2 : Int32))]) zThr (zKI (fun v22 => if v22 = a2 then (s_X6_unsafe_29 E (s_X6_unsafe_3 E n) a0 a1 a2) else (s_X6_unsafe_34 E (s_X6_unsafe_3 E n) a0 a1 a2 (0 : Int32))))))))
theorem w_X6_unsafe_3 (x : zCx p l R s m args meth c E D tA cX6_unsafe 4 yX6_unsafe.cls 12) (hl : l.stackTraces = false) (hret : meth.sig.returnType = (Option.some Jvm.ClassFile.FieldType.int)) (hnm : meth.name = yX6_unsafe.name) (htab : ∀ z ∈ c.exceptionTable.toList, False) : ∀ (n : Nat) (a0 : Option Nat) (a1 : Int32) (a2 : Int32), zW p l e R s m args below meth c E D tA 4 k0 (s_X6_unsafe_3 E n a0 a1 a2) [(0, zP a0), (1, zI a1), (2, zI a2)] 3 [] := by
  intro n
  induction n with
  | zero => intro a0 a1 a2; exact z_fail
  | succ n h3 =>
    intro a0 a1 a2
    rw [s_X6_unsafe_3]
    refine z_iload_n (pc := 3) x 2 dX6_unsafe_3 rfl rfl ?_
    refine z_bipush (pc := 4) x (v := (13 : Int32)) dX6_unsafe_4 rfl ?_
    refine z_icmp_ge (pc := 6) (tgt := 70) x dX6_unsafe_6 rfl (fun _ => ?_) (fun _ => ?_)
    · refine z_iconst (pc := 70) x (v := (-1 : Int32)) dX6_unsafe_70 rfl ?_
      exact z_iret (pc := 71) x hret dX6_unsafe_71
    · refine z_aload_n (pc := 9) x 0 dX6_unsafe_9 rfl rfl ?_
      refine z_iload_n (pc := 10) x 1 dX6_unsafe_10 rfl rfl ?_
      refine z_iconst (pc := 11) x (v := (1 : Int32)) dX6_unsafe_11 rfl ?_
      refine z_call (pc := 12) (z_canV (pc := 12) (As := [zI a1, zI (1 : Int32)]) (st := []) x (ci := 34) rfl (fun b => m_X6_of hl (some b) a1 (1 : Int32)) q2939 q2941 (z_selP x (ci := 34) rfl (by decide) (zNi_inst x q2780) q2940 q2941) q121 q2942 n_X6_of ⟨by decide, by decide⟩ (Nat.le_of_ble_eq_true rfl) dX6_unsafe_12) (zv_I fun v12 => ?_) (fun q => zx_thr x (fun z hz => (htab z hz).elim) q)
      refine z_iload_n (pc := 15) x 2 dX6_unsafe_15 rfl rfl ?_
      refine z_icmp_eq (pc := 16) (tgt := 29) x dX6_unsafe_16 rfl (fun _ => ?_) (fun _ => ?_)
      · exact z_sub [0, 1, 2] rfl (w_X6_unsafe_29 x hl hret hnm htab h3 a0 a1 a2)
      · refine z_aload_n (pc := 19) x 0 dX6_unsafe_19 rfl rfl ?_
        refine z_iload_n (pc := 20) x 1 dX6_unsafe_20 rfl rfl ?_
        refine z_iconst (pc := 21) x (v := (2 : Int32)) dX6_unsafe_21 rfl ?_
        refine z_call (pc := 22) (z_canV (pc := 22) (As := [zI a1, zI (2 : Int32)]) (st := []) x (ci := 34) rfl (fun b => m_X6_of hl (some b) a1 (2 : Int32)) q2939 q2941 (z_selP x (ci := 34) rfl (by decide) (zNi_inst x q2780) q2940 q2941) q121 q2942 n_X6_of ⟨by decide, by decide⟩ (Nat.le_of_ble_eq_true rfl) dX6_unsafe_22) (zv_I fun v22 => ?_) (fun q => zx_thr x (fun z hz => (htab z hz).elim) q)
        refine z_iload_n (pc := 25) x 2 dX6_unsafe_25 rfl rfl ?_
        refine z_icmp_ne (pc := 26) (tgt := 33) x dX6_unsafe_26 rfl (fun _ => ?_) (fun _ => ?_)
        · exact z_sub [0, 1, 2] rfl (w_X6_unsafe_29 x hl hret hnm htab h3 a0 a1 a2)
        · refine z_iconst (pc := 33) x (v := (0 : Int32)) dX6_unsafe_33 rfl ?_
          exact z_sub [0, 1, 2] rfl (w_X6_unsafe_34 x hl hret hnm htab h3 a0 a1 a2 (0 : Int32))
def s_X6_unsafe (E : zE) (a0 : Option Nat) (a1 : Int32) : zM := s_X6_unsafe_3 E zN a0 a1 (10 : Int32)
theorem m_X6_unsafe {l : Launch} {E : zE} {D : va_G} {tA : Nat → ClassId} (hl : l.stackTraces = false) (a0 : Option Nat) (a1 : Int32) : zMet l E D tA yX6_unsafe (ws_ yX6_unsafe cX6_unsafe 4 (Option.some Jvm.ClassFile.FieldType.int)) 12 (s_X6_unsafe E a0 a1) [zP a0, zI a1] := by
  refine z_met hl (by decide +kernel) (by rw [zSl_len]; exact (Nat.le_of_ble_eq_true rfl)) fun p e R s m args below meth c k0 x hret hnm htab => ?_
  refine z_lv [(0, zP a0), (1, zI a1)] rfl ?_
  unfold s_X6_unsafe
  refine z_bipush (pc := 0) x (v := (10 : Int32)) dX6_unsafe_0 rfl ?_
  refine z_istore_n (pc := 2) (lv' := [(2, zI (10 : Int32)), (0, zP a0), (1, zI a1)]) x dX6_unsafe_2 rfl (Nat.le_of_ble_eq_true rfl) rfl ?_
  exact z_sub [1, 2, 0] rfl (w_X6_unsafe_3 x hl hret hnm htab zN a0 a1 (10 : Int32))
/-! X6_areSame -/
def s_X6_areSame_70 (E : zE) (k26 : Option Nat → Int32 → Int32 → Int32 → Int32 → zM) (a0 : Option Nat) (a1 : Int32) (a2 : Int32) (a4 : Int32) (b0 : Int32) : zM := k26 a0 a1 a2 b0 (a4 + (1 : Int32))
theorem w_X6_areSame_70 (x : zCx p l R s m args meth c E D tA cX6_areSame 5 yX6_areSame.cls 10) (hl : l.stackTraces = false) (hret : meth.sig.returnType = (Option.some Jvm.ClassFile.FieldType.boolean)) (hnm : meth.name = yX6_areSame.name) (htab : ∀ z ∈ c.exceptionTable.toList, False) {k26 : Option Nat → Int32 → Int32 → Int32 → Int32 → zM} (h26 : ∀ (a0 : Option Nat) (a1 : Int32) (a2 : Int32) (a3 : Int32) (a4 : Int32) , zW p l e R s m args below meth c E D tA 5 k0 (k26 a0 a1 a2 a3 a4) [(0, zP a0), (1, zI a1), (2, zI a2), (3, zI a3), (4, zI a4)] 26 []) (a0 : Option Nat) (a1 : Int32) (a2 : Int32) (a4 : Int32) (b0 : Int32) : zW p l e R s m args below meth c E D tA 5 k0 (s_X6_areSame_70 E k26 a0 a1 a2 a4 b0) [(0, zP a0), (1, zI a1), (2, zI a2), (4, zI a4)] 70 [zI b0] := by
  unfold s_X6_areSame_70
  refine z_istore_n (pc := 70) (lv' := [(3, zI b0), (0, zP a0), (1, zI a1), (2, zI a2), (4, zI a4)]) x dX6_areSame_70 rfl (Nat.le_of_ble_eq_true rfl) rfl ?_
  refine z_iinc (pc := 71) (lv' := [(4, zI (a4 + (1 : Int32))), (3, zI b0), (0, zP a0), (1, zI a1), (2, zI a2)]) x (v2 := (a4 + (1 : Int32))) 4 dX6_areSame_71 rfl rfl (Nat.le_of_ble_eq_true rfl) rfl ?_
  refine z_goto (pc := 74) (tgt := 26) x dX6_areSame_74 rfl ?_
  exact z_sub [2, 3, 4, 1, 0] rfl (h26 a0 a1 a2 b0 (a4 + (1 : Int32)))
def s_X6_areSame_26 (E : zE) : Nat → Option Nat → Int32 → Int32 → Int32 → Int32 → zM
  | 0, _, _, _, _, _ => zFail
  | n + 1, a0, a1, a2, a3, a4 => zC (zRv a0 [(34, fun b => s_X6_of E (some b) a1 (16 : Int32))]) zThr (zKI (fun v32 => if v32 ≤ a4 then (zRetN .boolean a3) else (if a3 = 0 then (zRetN .boolean a3) else (zC (zRv a0 [(34, fun b => s_X6_of E (some b) a1 ((17 : Int32) + a4))]) zThr (zKI (fun v49 => zC (zRv a0 [(34, fun b => s_X6_of E (some b) a2 ((17 : Int32) + a4))]) zThr (zKI (fun v59 => if v49 = v59 then (s_X6_areSame_70 E (s_X6_areSame_26 E n) a0 a1 a2 a4 (1 : Int32)) else (s_X6_areSame_70 E (s_X6_areSame_26 E n) a0 a1 a2 a4 (0 : Int32))))))))))
theorem w_X6_areSame_26 (x : zCx p l R s m args meth c E D tA cX6_areSame 5 yX6_areSame.cls 10) (hl : l.stackTraces = false) (hret : meth.sig.returnType = (Option.some Jvm.ClassFile.FieldType.boolean)) (hnm : meth.name = yX6_areSame.name) (htab : ∀ z ∈ c.exceptionTable.toList, False) : ∀ (n : Nat) (a0 : Option Nat) (a1 : Int32) (a2 : Int32) (a3 : Int32) (a4 : Int32), zW p l e R s m args below meth c E D tA 5 k0 (s_X6_areSame_26 E n a0 a1 a2 a3 a4) [(0, zP a0), (1, zI a1), (2, zI a2), (3, zI a3), (4, zI a4)] 26 [] := by
  intro n
  induction n with
  | zero => intro a0 a1 a2 a3 a4; exact z_fail
  | succ n h26 =>
    intro a0 a1 a2 a3 a4
    rw [s_X6_areSame_26]
    refine z_iload (pc := 26) x 4 dX6_areSame_26 rfl ?_
    refine z_aload_n (pc := 28) x 0 dX6_areSame_28 rfl rfl ?_
    refine z_iload_n (pc := 29) x 1 dX6_areSame_29 rfl rfl ?_
    refine z_bipush (pc := 30) x (v := (16 : Int32)) dX6_areSame_30 rfl ?_
    refine z_call (pc := 32) (z_canV (pc := 32) (As := [zI a1, zI (16 : Int32)]) (st := [zI a4]) x (ci := 34) rfl (fun b => m_X6_of hl (some b) a1 (16 : Int32)) q2939 q2941 (z_selP x (ci := 34) rfl (by decide) (zNi_inst x q2780) q2940 q2941) q121 q2942 n_X6_of ⟨by decide, by decide⟩ (Nat.le_of_ble_eq_true rfl) dX6_areSame_32) (zv_I fun v32 => ?_) (fun q => zx_thr x (fun z hz => (htab z hz).elim) q)
    refine z_icmp_ge (pc := 35) (tgt := 77) x dX6_areSame_35 rfl (fun _ => ?_) (fun _ => ?_)
    · refine z_iload_n (pc := 77) x 3 dX6_areSame_77 rfl rfl ?_
      exact z_zret (pc := 78) x hret dX6_areSame_78
    · refine z_iload_n (pc := 38) x 3 dX6_areSame_38 rfl rfl ?_
      refine z_if_eq (pc := 39) (tgt := 77) x dX6_areSame_39 rfl (fun _ => ?_) (fun _ => ?_)
      · refine z_iload_n (pc := 77) x 3 dX6_areSame_77 rfl rfl ?_
        exact z_zret (pc := 78) x hret dX6_areSame_78
      · refine z_aload_n (pc := 42) x 0 dX6_areSame_42 rfl rfl ?_
        refine z_iload_n (pc := 43) x 1 dX6_areSame_43 rfl rfl ?_
        refine z_bipush (pc := 44) x (v := (17 : Int32)) dX6_areSame_44 rfl ?_
        refine z_iload (pc := 46) x 4 dX6_areSame_46 rfl ?_
        refine z_iadd (pc := 48) x dX6_areSame_48 ?_
        refine z_call (pc := 49) (z_canV (pc := 49) (As := [zI a1, zI ((17 : Int32) + a4)]) (st := []) x (ci := 34) rfl (fun b => m_X6_of hl (some b) a1 ((17 : Int32) + a4)) q2939 q2941 (z_selP x (ci := 34) rfl (by decide) (zNi_inst x q2780) q2940 q2941) q121 q2942 n_X6_of ⟨by decide, by decide⟩ (Nat.le_of_ble_eq_true rfl) dX6_areSame_49) (zv_I fun v49 => ?_) (fun q => zx_thr x (fun z hz => (htab z hz).elim) q)
        refine z_aload_n (pc := 52) x 0 dX6_areSame_52 rfl rfl ?_
        refine z_iload_n (pc := 53) x 2 dX6_areSame_53 rfl rfl ?_
        refine z_bipush (pc := 54) x (v := (17 : Int32)) dX6_areSame_54 rfl ?_
        refine z_iload (pc := 56) x 4 dX6_areSame_56 rfl ?_
        refine z_iadd (pc := 58) x dX6_areSame_58 ?_
        refine z_call (pc := 59) (z_canV (pc := 59) (As := [zI a2, zI ((17 : Int32) + a4)]) (st := [zI v49]) x (ci := 34) rfl (fun b => m_X6_of hl (some b) a2 ((17 : Int32) + a4)) q2939 q2941 (z_selP x (ci := 34) rfl (by decide) (zNi_inst x q2780) q2940 q2941) q121 q2942 n_X6_of ⟨by decide, by decide⟩ (Nat.le_of_ble_eq_true rfl) dX6_areSame_59) (zv_I fun v59 => ?_) (fun q => zx_thr x (fun z hz => (htab z hz).elim) q)
        refine z_icmp_ne (pc := 62) (tgt := 69) x dX6_areSame_62 rfl (fun _ => ?_) (fun _ => ?_)
        · refine z_iconst (pc := 65) x (v := (1 : Int32)) dX6_areSame_65 rfl ?_
          refine z_goto (pc := 66) (tgt := 70) x dX6_areSame_66 rfl ?_
          exact z_sub [0, 1, 2, 4] rfl (w_X6_areSame_70 x hl hret hnm htab h26 a0 a1 a2 a4 (1 : Int32))
        · refine z_iconst (pc := 69) x (v := (0 : Int32)) dX6_areSame_69 rfl ?_
          exact z_sub [0, 1, 2, 4] rfl (w_X6_areSame_70 x hl hret hnm htab h26 a0 a1 a2 a4 (0 : Int32))
def s_X6_areSame_22 (E : zE) (a0 : Option Nat) (a1 : Int32) (a2 : Int32) (b0 : Int32) : zM := s_X6_areSame_26 E zN a0 a1 a2 b0 (0 : Int32)
theorem w_X6_areSame_22 (x : zCx p l R s m args meth c E D tA cX6_areSame 5 yX6_areSame.cls 10) (hl : l.stackTraces = false) (hret : meth.sig.returnType = (Option.some Jvm.ClassFile.FieldType.boolean)) (hnm : meth.name = yX6_areSame.name) (htab : ∀ z ∈ c.exceptionTable.toList, False) (a0 : Option Nat) (a1 : Int32) (a2 : Int32) (b0 : Int32) : zW p l e R s m args below meth c E D tA 5 k0 (s_X6_areSame_22 E a0 a1 a2 b0) [(0, zP a0), (1, zI a1), (2, zI a2)] 22 [zI b0] := by
  unfold s_X6_areSame_22
  refine z_istore_n (pc := 22) (lv' := [(3, zI b0), (0, zP a0), (1, zI a1), (2, zI a2)]) x dX6_areSame_22 rfl (Nat.le_of_ble_eq_true rfl) rfl ?_
  refine z_iconst (pc := 23) x (v := (0 : Int32)) dX6_areSame_23 rfl ?_
  refine z_istore (pc := 24) (lv' := [(4, zI (0 : Int32)), (3, zI b0), (0, zP a0), (1, zI a1), (2, zI a2)]) x dX6_areSame_24 (Nat.le_of_ble_eq_true rfl) rfl ?_
  exact z_sub [2, 3, 4, 1, 0] rfl (w_X6_areSame_26 x hl hret hnm htab zN a0 a1 a2 b0 (0 : Int32))
def s_X6_areSame (E : zE) (a0 : Option Nat) (a1 : Int32) (a2 : Int32) : zM := zC (zRv a0 [(34, fun b => s_X6_of E (some b) a1 (16 : Int32))]) zThr (zKI (fun v4 => zC (zRv a0 [(34, fun b => s_X6_of E (some b) a2 (16 : Int32))]) zThr (zKI (fun v11 => if v4 = v11 then (s_X6_areSame_22 E a0 a1 a2 (1 : Int32)) else (s_X6_areSame_22 E a0 a1 a2 (0 : Int32))))))
theorem m_X6_areSame {l : Launch} {E : zE} {D : va_G} {tA : Nat → ClassId} (hl : l.stackTraces = false) (a0 : Option Nat) (a1 : Int32) (a2 : Int32) : zMet l E D tA yX6_areSame (ws_ yX6_areSame cX6_areSame 5 (Option.some Jvm.ClassFile.FieldType.boolean)) 10 (s_X6_areSame E a0 a1 a2) [zP a0, zI a1, zI a2] := by
  refine z_met hl (by decide +kernel) (by rw [zSl_len]; exact (Nat.le_of_ble_eq_true rfl)) fun p e R s m args below meth c k0 x hret hnm htab => ?_
  refine z_lv [(0, zP a0), (1, zI a1), (2, zI a2)] rfl ?_
  unfold s_X6_areSame
  refine z_aload_n (pc := 0) x 0 dX6_areSame_0 rfl rfl ?_
  refine z_iload_n (pc := 1) x 1 dX6_areSame_1 rfl rfl ?_
  refine z_bipush (pc := 2) x (v := (16 : Int32)) dX6_areSame_2 rfl ?_
  refine z_call (pc := 4) (z_canV (pc := 4) (As := [zI a1, zI (16 : Int32)]) (st := []) x (ci := 34) rfl (fun b => m_X6_of hl (some b) a1 (16 : Int32)) q2939 q2941 (z_selP x (ci := 34) rfl (by decide) (zNi_inst x q2780) q2940 q2941) q121 q2942 n_X6_of ⟨by decide, by decide⟩ (Nat.le_of_ble_eq_true rfl) dX6_areSame_4) (zv_I fun v4 => ?_) (fun q => zx_thr x (fun z hz => (htab z hz).elim) q)
  refine z_aload_n (pc := 7) x 0 dX6_areSame_7 rfl rfl ?_
  refine z_iload_n (pc := 8) x 2 dX6_areSame_8 rfl rfl ?_
  refine z_bipush (pc := 9) x (v := (16 : Int32)) dX6_areSame_9 rfl ?_
  refine z_call (pc := 11) (z_canV (pc := 11) (As := [zI a2, zI (16 : Int32)]) (st := [zI v4]) x (ci := 34) rfl (fun b => m_X6_of hl (some b) a2 (16 : Int32)) q2939 q2941 (z_selP x (ci := 34) rfl (by decide) (zNi_inst x q2780) q2940 q2941) q121 q2942 n_X6_of ⟨by decide, by decide⟩ (Nat.le_of_ble_eq_true rfl) dX6_areSame_11) (zv_I fun v11 => ?_) (fun q => zx_thr x (fun z hz => (htab z hz).elim) q)
  refine z_icmp_ne (pc := 14) (tgt := 21) x dX6_areSame_14 rfl (fun _ => ?_) (fun _ => ?_)
  · refine z_iconst (pc := 17) x (v := (1 : Int32)) dX6_areSame_17 rfl ?_
    refine z_goto (pc := 18) (tgt := 22) x dX6_areSame_18 rfl ?_
    exact z_sub [0, 1, 2] rfl (w_X6_areSame_22 x hl hret hnm htab a0 a1 a2 (1 : Int32))
  · refine z_iconst (pc := 21) x (v := (0 : Int32)) dX6_areSame_21 rfl ?_
    exact z_sub [0, 1, 2] rfl (w_X6_areSame_22 x hl hret hnm htab a0 a1 a2 (0 : Int32))
/-! X6_sameAs -/
def s_X6_sameAs_2 (E : zE) : Nat → Option Nat → Int32 → Int32 → zM
  | 0, _, _, _ => zFail
  | n + 1, a0, a1, a2 => if a1 ≤ a2 then (zRet (some (.int (-1 : Int32)))) else (zC (zRv a0 [(34, fun b => s_X6_areSame E (some b) a2 a1)]) zThr (zKI (fun v10 => if v10 = 0 then ((s_X6_sameAs_2 E n) a0 a1 (a2 + (1 : Int32))) else (zRet (some (.int a2))))))
theorem w_X6_sameAs_2 (x : zCx p l R s m args meth c E D tA cX6_sameAs 3 yX6_sameAs.cls 11) (hl : l.stackTraces = false) (hret : meth.sig.returnType = (Option.some Jvm.ClassFile.FieldType.int)) (hnm : meth.name = yX6_sameAs.name) (htab : ∀ z ∈ c.exceptionTable.toList, False) : ∀ (n : Nat) (a0 : Option Nat) (a1 : Int32) (a2 : Int32), zW p l e R s m args below meth c E D tA 3 k0 (s_X6_sameAs_2 E n a0 a1 a2) [(0, zP a0), (1, zI a1), (2, zI a2)] 2 [] := by
  intro n
  induction n with
  | zero => intro a0 a1 a2; exact z_fail
  | succ n h2 =>
    intro a0 a1 a2
    rw [s_X6_sameAs_2]
    refine z_iload_n (pc := 2) x 2 dX6_sameAs_2 rfl rfl ?_
    refine z_iload_n (pc := 3) x 1 dX6_sameAs_3 rfl rfl ?_
    refine z_icmp_ge (pc := 4) (tgt := 24) x dX6_sameAs_4 rfl (fun _ => ?_) (fun _ => ?_)
    · refine z_iconst (pc := 24) x (v := (-1 : Int32)) dX6_sameAs_24 rfl ?_
      exact z_iret (pc := 25) x hret dX6_sameAs_25
    · refine z_aload_n (pc := 7) x 0 dX6_sameAs_7 rfl rfl ?_
      refine z_iload_n (pc := 8) x 2 dX6_sameAs_8 rfl rfl ?_
      refine z_iload_n (pc := 9) x 1 dX6_sameAs_9 rfl rfl ?_
      refine z_call (pc := 10) (z_canV (pc := 10) (As := [zI a2, zI a1]) (st := []) x (ci := 34) rfl (fun b => m_X6_areSame hl (some b) a2 a1) q3273 q3275 (z_selP x (ci := 34) rfl (by decide) (zNi_inst x q2780) q3274 q3275) q121 q3276 n_X6_areSame ⟨by decide, by decide⟩ (Nat.le_of_ble_eq_true rfl) dX6_sameAs_10) (zv_I fun v10 => ?_) (fun q => zx_thr x (fun z hz => (htab z hz).elim) q)
      refine z_if_eq (pc := 13) (tgt := 18) x dX6_sameAs_13 rfl (fun _ => ?_) (fun _ => ?_)
      · refine z_iinc (pc := 18) (lv' := [(2, zI (a2 + (1 : Int32))), (0, zP a0), (1, zI a1)]) x (v2 := (a2 + (1 : Int32))) 2 dX6_sameAs_18 rfl rfl (Nat.le_of_ble_eq_true rfl) rfl ?_
        refine z_goto (pc := 21) (tgt := 2) x dX6_sameAs_21 rfl ?_
        exact z_sub [1, 2, 0] rfl (h2 a0 a1 (a2 + (1 : Int32)))
      · refine z_iload_n (pc := 16) x 2 dX6_sameAs_16 rfl rfl ?_
        exact z_iret (pc := 17) x hret dX6_sameAs_17
def s_X6_sameAs (E : zE) (a0 : Option Nat) (a1 : Int32) : zM := s_X6_sameAs_2 E zN a0 a1 (0 : Int32)
theorem m_X6_sameAs {l : Launch} {E : zE} {D : va_G} {tA : Nat → ClassId} (hl : l.stackTraces = false) (a0 : Option Nat) (a1 : Int32) : zMet l E D tA yX6_sameAs (ws_ yX6_sameAs cX6_sameAs 3 (Option.some Jvm.ClassFile.FieldType.int)) 11 (s_X6_sameAs E a0 a1) [zP a0, zI a1] := by
  refine z_met hl (by decide +kernel) (by rw [zSl_len]; exact (Nat.le_of_ble_eq_true rfl)) fun p e R s m args below meth c k0 x hret hnm htab => ?_
  refine z_lv [(0, zP a0), (1, zI a1)] rfl ?_
  unfold s_X6_sameAs
  refine z_iconst (pc := 0) x (v := (0 : Int32)) dX6_sameAs_0 rfl ?_
  refine z_istore_n (pc := 1) (lv' := [(2, zI (0 : Int32)), (0, zP a0), (1, zI a1)]) x dX6_sameAs_1 rfl (Nat.le_of_ble_eq_true rfl) rfl ?_
  exact z_sub [1, 2, 0] rfl (w_X6_sameAs_2 x hl hret hnm htab zN a0 a1 (0 : Int32))
/-! X6_isRefused -/
def s_X6_isRefused (E : zE) (a0 : Option Nat) (a1 : Int32) (a2 : Int32) (a3 : Int32) : zM := if a1 = 0 then (zRetN .boolean a1) else (zSet E a0 34 17 (zVal (zI a2)) (zSet E a0 34 18 (zVal (zI a3)) (zSet E a0 34 13 (zVal (zI (1 : Int32))) (zRetN .boolean a1))))
theorem m_X6_isRefused {l : Launch} {E : zE} {D : va_G} {tA : Nat → ClassId} (hl : l.stackTraces = false) (a0 : Option Nat) (a1 : Int32) (a2 : Int32) (a3 : Int32) : zMet l E D tA yX6_isRefused (ws_ yX6_isRefused cX6_isRefused 4 (Option.some Jvm.ClassFile.FieldType.boolean)) 9 (s_X6_isRefused E a0 a1 a2 a3) [zP a0, zI a1, zI a2, zI a3] := by
  refine z_met hl (by decide +kernel) (by rw [zSl_len]; exact (Nat.le_of_ble_eq_true rfl)) fun p e R s m args below meth c k0 x hret hnm htab => ?_
  refine z_lv [(0, zP a0), (1, zI a1), (2, zI a2), (3, zI a3)] rfl ?_
  unfold s_X6_isRefused
  refine z_iload_n (pc := 0) x 1 dX6_isRefused_0 rfl rfl ?_
  refine z_if_eq (pc := 1) (tgt := 19) x dX6_isRefused_1 rfl (fun _ => ?_) (fun _ => ?_)
  · refine z_iload_n (pc := 19) x 1 dX6_isRefused_19 rfl rfl ?_
    exact z_zret (pc := 20) x hret dX6_isRefused_20
  · refine z_aload_n (pc := 4) x 0 dX6_isRefused_4 rfl rfl ?_
    refine z_iload_n (pc := 5) x 2 dX6_isRefused_5 rfl rfl ?_
    refine z_set (pc := 6) (v := zI a2) x in_X6 tyX6 tyX6_ok nmX6 (ci := 34) rfl (k := 17) (by decide) q2802 (fun _ h => h) rfl rfl rfl dX6_isRefused_6 ?_
    refine z_aload_n (pc := 9) x 0 dX6_isRefused_9 rfl rfl ?_
    refine z_iload_n (pc := 10) x 3 dX6_isRefused_10 rfl rfl ?_
    refine z_set (pc := 11) (v := zI a3) x in_X6 tyX6 tyX6_ok nmX6 (ci := 34) rfl (k := 18) (by decide) q2803 (fun _ h => h) rfl rfl rfl dX6_isRefused_11 ?_
    refine z_aload_n (pc := 14) x 0 dX6_isRefused_14 rfl rfl ?_
    refine z_iconst (pc := 15) x (v := (1 : Int32)) dX6_isRefused_15 rfl ?_
    refine z_set (pc := 16) (v := zI (1 : Int32)) x in_X6 tyX6 tyX6_ok nmX6 (ci := 34) rfl (k := 13) (by decide) q2798 (fun _ h => h) rfl rfl rfl dX6_isRefused_16 ?_
    refine z_iload_n (pc := 19) x 1 dX6_isRefused_19 rfl rfl ?_
    exact z_zret (pc := 20) x hret dX6_isRefused_20
/-! X6_isLayered -/
def s_X6_isLayered_73 (E : zE) (k8 : Option Nat → Int32 → Int32 → zM) (k28 : Option Nat → Int32 → Int32 → Int32 → Int32 → zM) (a0 : Option Nat) (a2 : Int32) (a3 : Int32) (a4 : Int32) (b0 : Int32) (b1 : Int32) : zM := k28 a0 (b0 &&& b1) a2 a3 (a4 + (1 : Int32))
theorem w_X6_isLayered_73 (x : zCx p l R s m args meth c E D tA cX6_isLayered 5 yX6_isLayered.cls 13) (hl : l.stackTraces = false) (hret : meth.sig.returnType = (Option.some Jvm.ClassFile.FieldType.boolean)) (hnm : meth.name = yX6_isLayered.name) (htab : ∀ z ∈ c.exceptionTable.toList, False) {k8 : Option Nat → Int32 → Int32 → zM} (h8 : ∀ (a0 : Option Nat) (a1 : Int32) (a2 : Int32) , zW p l e R s m args below meth c E D tA 5 k0 (k8 a0 a1 a2) [(0, zP a0), (1, zI a1), (2, zI a2)] 8 []) {k28 : Option Nat → Int32 → Int32 → Int32 → Int32 → zM} (h28 : ∀ (a0 : Option Nat) (a1 : Int32) (a2 : Int32) (a3 : Int32) (a4 : Int32) , zW p l e R s m args below meth c E D tA 5 k0 (k28 a0 a1 a2 a3 a4) [(0, zP a0), (1, zI a1), (2, zI a2), (3, zI a3), (4, zI a4)] 28 []) (a0 : Option Nat) (a2 : Int32) (a3 : Int32) (a4 : Int32) (b0 : Int32) (b1 : Int32) : zW p l e R s m args below meth c E D tA 5 k0 (s_X6_isLayered_73 E k8 k28 a0 a2 a3 a4 b0 b1) [(0, zP a0), (2, zI a2), (3, zI a3), (4, zI a4)] 73 [zI b1, zI b0] := by
  unfold s_X6_isLayered_73
  refine z_iand (pc := 73) x dX6_isLayered_73 ?_
  refine z_istore_n (pc := 74) (lv' := [(1, zI (b0 &&& b1)), (0, zP a0), (2, zI a2), (3, zI a3), (4, zI a4)]) x dX6_isLayered_74 rfl (Nat.le_of_ble_eq_true rfl) rfl ?_
  refine z_iinc (pc := 75) (lv' := [(4, zI (a4 + (1 : Int32))), (1, zI (b0 &&& b1)), (0, zP a0), (2, zI a2), (3, zI a3)]) x (v2 := (a4 + (1 : Int32))) 4 dX6_isLayered_75 rfl rfl (Nat.le_of_ble_eq_true rfl) rfl ?_
  refine z_goto (pc := 78) (tgt := 28) x dX6_isLayered_78 rfl ?_
  exact z_sub [2, 1, 3, 4, 0] rfl (h28 a0 (b0 &&& b1) a2 a3 (a4 + (1 : Int32)))
def s_X6_isLayered_68 (E : zE) (k8 : Option Nat → Int32 → Int32 → zM) (k28 : Option Nat → Int32 → Int32 → Int32 → Int32 → zM) (a0 : Option Nat) (a2 : Int32) (a3 : Int32) (a4 : Int32) (b0 : Int32) : zM := s_X6_isLayered_73 E k8 k28 a0 a2 a3 a4 b0 (1 : Int32)
theorem w_X6_isLayered_68 (x : zCx p l R s m args meth c E D tA cX6_isLayered 5 yX6_isLayered.cls 13) (hl : l.stackTraces = false) (hret : meth.sig.returnType = (Option.some Jvm.ClassFile.FieldType.boolean)) (hnm : meth.name = yX6_isLayered.name) (htab : ∀ z ∈ c.exceptionTable.toList, False) {k8 : Option Nat → Int32 → Int32 → zM} (h8 : ∀ (a0 : Option Nat) (a1 : Int32) (a2 : Int32) , zW p l e R s m args below meth c E D tA 5 k0 (k8 a0 a1 a2) [(0, zP a0), (1, zI a1), (2, zI a2)] 8 []) {k28 : Option Nat → Int32 → Int32 → Int32 → Int32 → zM} (h28 : ∀ (a0 : Option Nat) (a1 : Int32) (a2 : Int32) (a3 : Int32) (a4 : Int32) , zW p l e R s m args below meth c E D tA 5 k0 (k28 a0 a1 a2 a3 a4) [(0, zP a0), (1, zI a1), (2, zI a2), (3, zI a3), (4, zI a4)] 28 []) (a0 : Option Nat) (a2 : Int32) (a3 : Int32) (a4 : Int32) (b0 : Int32) : zW p l e R s m args below meth c E D tA 5 k0 (s_X6_isLayered_68 E k8 k28 a0 a2 a3 a4 b0) [(0, zP a0), (2, zI a2), (3, zI a3), (4, zI a4)] 68 [zI b0] := by
  unfold s_X6_isLayered_68
  refine z_iconst (pc := 68) x (v := (1 : Int32)) dX6_isLayered_68 rfl ?_
  refine z_goto (pc := 69) (tgt := 73) x dX6_isLayered_69 rfl ?_
  exact z_sub [0, 1, 2, 3] rfl (w_X6_isLayered_73 x hl hret hnm htab h8 h28 a0 a2 a3 a4 b0 (1 : Int32))
def s_X6_isLayered_72 (E : zE) (k8 : Option Nat → Int32 → Int32 → zM) (k28 : Option Nat → Int32 → Int32 → Int32 → Int32 → zM) (a0 : Option Nat) (a2 : Int32) (a3 : Int32) (a4 : Int32) (b0 : Int32) : zM := s_X6_isLayered_73 E k8 k28 a0 a2 a3 a4 b0 (0 : Int32)
theorem w_X6_isLayered_72 (x : zCx p l R s m args meth c E D tA cX6_isLayered 5 yX6_isLayered.cls 13) (hl : l.stackTraces = false) (hret : meth.sig.returnType = (Option.some Jvm.ClassFile.FieldType.boolean)) (hnm : meth.name = yX6_isLayered.name) (htab : ∀ z ∈ c.exceptionTable.toList, False) {k8 : Option Nat → Int32 → Int32 → zM} (h8 : ∀ (a0 : Option Nat) (a1 : Int32) (a2 : Int32) , zW p l e R s m args below meth c E D tA 5 k0 (k8 a0 a1 a2) [(0, zP a0), (1, zI a1), (2, zI a2)] 8 []) {k28 : Option Nat → Int32 → Int32 → Int32 → Int32 → zM} (h28 : ∀ (a0 : Option Nat) (a1 : Int32) (a2 : Int32) (a3 : Int32) (a4 : Int32) , zW p l e R s m args below meth c E D tA 5 k0 (k28 a0 a1 a2 a3 a4) [(0, zP a0), (1, zI a1), (2, zI a2), (3, zI a3), (4, zI a4)] 28 []) (a0 : Option Nat) (a2 : Int32) (a3 : Int32) (a4 : Int32) (b0 : Int32) : zW p l e R s m args below meth c E D tA 5 k0 (s_X6_isLayered_72 E k8 k28 a0 a2 a3 a4 b0) [(0, zP a0), (2, zI a2), (3, zI a3), (4, zI a4)] 72 [zI b0] := by
  unfold s_X6_isLayered_72
  refine z_iconst (pc := 72) x (v := (0 : Int32)) dX6_isLayered_72 rfl ?_
  exact z_sub [0, 1, 2, 3] rfl (w_X6_isLayered_73 x hl hret hnm htab h8 h28 a0 a2 a3 a4 b0 (0 : Int32))
def s_X6_isLayered_28 (E : zE) (k8 : Option Nat → Int32 → Int32 → zM) : Nat → Option Nat → Int32 → Int32 → Int32 → Int32 → zM
  | 0, _, _, _, _, _ => zFail
  | n + 1, a0, a1, a2, a3, a4 => if (8 : Int32) ≤ a4 then (k8 a0 a1 (a2 + (1 : Int32))) else (zC (zRv a0 [(34, fun b => s_X6_needsBy E (some b) a2 a4 (1 : Int32))]) zThr (zKI (fun v41 => if v41 = 0 then (s_X6_isLayered_68 E k8 (s_X6_isLayered_28 E k8 n) a0 a2 a3 a4 a1) else (if a4 = a3 then (s_X6_isLayered_72 E k8 (s_X6_isLayered_28 E k8 n) a0 a2 a3 a4 a1) else (zGetR a0 34 11 (fun v54 => zGaI 2 v54 (((8 : Int32) * a4) + a3) (fun v64 => if v64 = 0 then (s_X6_isLayered_68 E k8 (s_X6_isLayered_28 E k8 n) a0 a2 a3 a4 a1) else (s_X6_isLayered_72 E k8 (s_X6_isLayered_28 E k8 n) a0 a2 a3 a4 a1))))))))
theorem w_X6_isLayered_28 (x : zCx p l R s m args meth c E D tA cX6_isLayered 5 yX6_isLayered.cls 13) (hl : l.stackTraces = false) (hret : meth.sig.returnType = (Option.some Jvm.ClassFile.FieldType.boolean)) (hnm : meth.name = yX6_isLayered.name) (htab : ∀ z ∈ c.exceptionTable.toList, False) {k8 : Option Nat → Int32 → Int32 → zM} (h8 : ∀ (a0 : Option Nat) (a1 : Int32) (a2 : Int32) , zW p l e R s m args below meth c E D tA 5 k0 (k8 a0 a1 a2) [(0, zP a0), (1, zI a1), (2, zI a2)] 8 []) : ∀ (n : Nat) (a0 : Option Nat) (a1 : Int32) (a2 : Int32) (a3 : Int32) (a4 : Int32), zW p l e R s m args below meth c E D tA 5 k0 (s_X6_isLayered_28 E k8 n a0 a1 a2 a3 a4) [(0, zP a0), (1, zI a1), (2, zI a2), (3, zI a3), (4, zI a4)] 28 [] := by
  intro n
  induction n with
  | zero => intro a0 a1 a2 a3 a4; exact z_fail
  | succ n h28 =>
    intro a0 a1 a2 a3 a4
    rw [s_X6_isLayered_28]
    refine z_iload (pc := 28) x 4 dX6_isLayered_28 rfl ?_
    refine z_bipush (pc := 30) x (v := (8 : Int32)) dX6_isLayered_30 rfl ?_
    refine z_icmp_ge (pc := 32) (tgt := 81) x dX6_isLayered_32 rfl (fun _ => ?_) (fun _ => ?_)
    · refine z_iinc (pc := 81) (lv' := [(2, zI (a2 + (1 : Int32))), (0, zP a0), (1, zI a1), (3, zI a3), (4, zI a4)]) x (v2 := (a2 + (1 : Int32))) 2 dX6_isLayered_81 rfl rfl (Nat.le_of_ble_eq_true rfl) rfl ?_
      refine z_goto (pc := 84) (tgt := 8) x dX6_isLayered_84 rfl ?_
      exact z_sub [1, 2, 0] rfl (h8 a0 a1 (a2 + (1 : Int32)))
    · refine z_iload_n (pc := 35) x 1 dX6_isLayered_35 rfl rfl ?_
      refine z_aload_n (pc := 36) x 0 dX6_isLayered_36 rfl rfl ?_
      refine z_iload_n (pc := 37) x 2 dX6_isLayered_37 rfl rfl ?_
      refine z_iload (pc := 38) x 4 dX6_isLayered_38 rfl ?_
      refine z_iconst (pc := 40) x (v := (1 : Int32)) dX6_isLayered_40 rfl ?_
      refine z_call (pc := 41) (z_canV (pc := 41) (As := [zI a2, zI a4, zI (1 : Int32)]) (st := [zI a1]) x (ci := 34) rfl (fun b => m_X6_needsBy hl (some b) a2 a4 (1 : Int32)) q2935 q2937 (z_selP x (ci := 34) rfl (by decide) (zNi_inst x q2780) q2936 q2937) q121 q2938 n_X6_needsBy ⟨by decide, by decide⟩ (Nat.le_of_ble_eq_true rfl) dX6_isLayered_41) (zv_I fun v41 => ?_) (fun q => zx_thr x (fun z hz => (htab z hz).elim) q)
      refine z_if_eq (pc := 44) (tgt := 68) x dX6_isLayered_44 rfl (fun _ => ?_) (fun _ => ?_)
      · exact z_sub [0, 2, 3, 4] rfl (w_X6_isLayered_68 x hl hret hnm htab h8 h28 a0 a2 a3 a4 a1)
      · refine z_iload (pc := 47) x 4 dX6_isLayered_47 rfl ?_
        refine z_iload_n (pc := 49) x 3 dX6_isLayered_49 rfl rfl ?_
        refine z_icmp_eq (pc := 50) (tgt := 72) x dX6_isLayered_50 rfl (fun _ => ?_) (fun _ => ?_)
        · exact z_sub [0, 2, 3, 4] rfl (w_X6_isLayered_72 x hl hret hnm htab h8 h28 a0 a2 a3 a4 a1)
        · refine z_aload_n (pc := 53) x 0 dX6_isLayered_53 rfl rfl ?_
          refine z_get (pc := 54) (fun _ _ h => zAsR_eq h) x in_X6 (ci := 34) rfl (k := 11) (by decide) q2796 (fun _ h => h) dX6_isLayered_54 fun v54 => ?_
          refine z_bipush (pc := 57) x (v := (8 : Int32)) dX6_isLayered_57 rfl ?_
          refine z_iload (pc := 59) x 4 dX6_isLayered_59 rfl ?_
          refine z_imul (pc := 61) x dX6_isLayered_61 ?_
          refine z_iload_n (pc := 62) x 3 dX6_isLayered_62 rfl rfl ?_
          refine z_iadd (pc := 63) x dX6_isLayered_63 ?_
          refine z_zald (pc := 64) x (t := 2) rfl dX6_isLayered_64 fun v64 => ?_
          refine z_if_ne (pc := 65) (tgt := 72) x dX6_isLayered_65 rfl (fun _ => ?_) (fun _ => ?_)
          · exact z_sub [0, 2, 3, 4] rfl (w_X6_isLayered_68 x hl hret hnm htab h8 h28 a0 a2 a3 a4 a1)
          · exact z_sub [0, 2, 3, 4] rfl (w_X6_isLayered_72 x hl hret hnm htab h8 h28 a0 a2 a3 a4 a1)
def s_X6_isLayered_8 (E : zE) : Nat → Option Nat → Int32 → Int32 → zM
  | 0, _, _, _ => zFail
  | n + 1, a0, a1, a2 => zGetR a0 34 0 (fun v10 => zGaI 0 v10 (3 : Int32) (fun v14 => if v14 ≤ a2 then (zRetN .boolean a1) else (zC (zRv a0 [(34, fun b => s_X6_of E (some b) a2 (0 : Int32))]) zThr (zKI (fun v21 => s_X6_isLayered_28 E (s_X6_isLayered_8 E n) zN a0 a1 a2 v21 (0 : Int32))))))
theorem w_X6_isLayered_8 (x : zCx p l R s m args meth c E D tA cX6_isLayered 5 yX6_isLayered.cls 13) (hl : l.stackTraces = false) (hret : meth.sig.returnType = (Option.some Jvm.ClassFile.FieldType.boolean)) (hnm : meth.name = yX6_isLayered.name) (htab : ∀ z ∈ c.exceptionTable.toList, False) : ∀ (n : Nat) (a0 : Option Nat) (a1 : Int32) (a2 : Int32), zW p l e R s m args below meth c E D tA 5 k0 (s_X6_isLayered_8 E n a0 a1 a2) [(0, zP a0), (1, zI a1), (2, zI a2)] 8 [] := by
  intro n
  induction n with
  | zero => intro a0 a1 a2; exact z_fail
  | succ n h8 =>
    intro a0 a1 a2
    rw [s_X6_isLayered_8]
    refine z_iload_n (pc := 8) x 2 dX6_isLayered_8 rfl rfl ?_
    refine z_aload_n (pc := 9) x 0 dX6_isLayered_9 rfl rfl ?_
    refine z_get (pc := 10) (fun _ _ h => zAsR_eq h) x in_X6 (ci := 34) rfl (k := 0) (by decide) q2785 (fun _ h => h) dX6_isLayered_10 fun v10 => ?_
    refine z_iconst (pc := 13) x (v := (3 : Int32)) dX6_isLayered_13 rfl ?_
    refine z_iald (pc := 14) x (t := 0) rfl dX6_isLayered_14 fun v14 => ?_
    refine z_icmp_ge (pc := 15) (tgt := 87) x dX6_isLayered_15 rfl (fun _ => ?_) (fun _ => ?_)
    · refine z_iload_n (pc := 87) x 1 dX6_isLayered_87 rfl rfl ?_
      exact z_zret (pc := 88) x hret dX6_isLayered_88
    · refine z_aload_n (pc := 18) x 0 dX6_isLayered_18 rfl rfl ?_
      refine z_iload_n (pc := 19) x 2 dX6_isLayered_19 rfl rfl ?_
      refine z_iconst (pc := 20) x (v := (0 : Int32)) dX6_isLayered_20 rfl ?_
      refine z_call (pc := 21) (z_canV (pc := 21) (As := [zI a2, zI (0 : Int32)]) (st := []) x (ci := 34) rfl (fun b => m_X6_of hl (some b) a2 (0 : Int32)) q2939 q2941 (z_selP x (ci := 34) rfl (by decide) (zNi_inst x q2780) q2940 q2941) q121 q2942 n_X6_of ⟨by decide, by decide⟩ (Nat.le_of_ble_eq_true rfl) dX6_isLayered_21) (zv_I fun v21 => ?_) (fun q => zx_thr x (fun z hz => (htab z hz).elim) q)
      refine z_istore_n (pc := 24) (lv' := [(3, zI v21), (0, zP a0), (1, zI a1), (2, zI a2)]) x dX6_isLayered_24 rfl (Nat.le_of_ble_eq_true rfl) rfl ?_
      refine z_iconst (pc := 25) x (v := (0 : Int32)) dX6_isLayered_25 rfl ?_
      refine z_istore (pc := 26) (lv' := [(4, zI (0 : Int32)), (3, zI v21), (0, zP a0), (1, zI a1), (2, zI a2)]) x dX6_isLayered_26 (Nat.le_of_ble_eq_true rfl) rfl ?_
      exact z_sub [2, 3, 4, 1, 0] rfl (w_X6_isLayered_28 x hl hret hnm htab h8 zN a0 a1 a2 v21 (0 : Int32))
def s_X6_isLayered (E : zE) (a0 : Option Nat) : zM := zC (zRv a0 [(34, fun b => s_X6_depends E (some b))]) zThr (zKV (s_X6_isLayered_8 E zN a0 (1 : Int32) (0 : Int32)))
theorem m_X6_isLayered {l : Launch} {E : zE} {D : va_G} {tA : Nat → ClassId} (hl : l.stackTraces = false) (a0 : Option Nat) : zMet l E D tA yX6_isLayered (ws_ yX6_isLayered cX6_isLayered 5 (Option.some Jvm.ClassFile.FieldType.boolean)) 13 (s_X6_isLayered E a0) [zP a0] := by
  refine z_met hl (by decide +kernel) (by rw [zSl_len]; exact (Nat.le_of_ble_eq_true rfl)) fun p e R s m args below meth c k0 x hret hnm htab => ?_
  refine z_lv [(0, zP a0)] rfl ?_
  unfold s_X6_isLayered
  refine z_aload_n (pc := 0) x 0 dX6_isLayered_0 rfl rfl ?_
  refine z_call (pc := 1) (z_canV (pc := 1) (As := []) (st := []) x (ci := 34) rfl (fun b => m_X6_depends hl (some b)) q3146 q3148 (z_selP x (ci := 34) rfl (by decide) (zNi_inst x q2780) q3147 q3148) q121 q3149 n_X6_depends ⟨by decide, by decide⟩ (Nat.le_of_ble_eq_true rfl) dX6_isLayered_1) (zv_V ?_) (fun q => zx_thr x (fun z hz => (htab z hz).elim) q)
  refine z_iconst (pc := 4) x (v := (1 : Int32)) dX6_isLayered_4 rfl ?_
  refine z_istore_n (pc := 5) (lv' := [(1, zI (1 : Int32)), (0, zP a0)]) x dX6_isLayered_5 rfl (Nat.le_of_ble_eq_true rfl) rfl ?_
  refine z_iconst (pc := 6) x (v := (0 : Int32)) dX6_isLayered_6 rfl ?_
  refine z_istore_n (pc := 7) (lv' := [(2, zI (0 : Int32)), (1, zI (1 : Int32)), (0, zP a0)]) x dX6_isLayered_7 rfl (Nat.le_of_ble_eq_true rfl) rfl ?_
  exact z_sub [2, 1, 0] rfl (w_X6_isLayered_8 x hl hret hnm htab zN a0 (1 : Int32) (0 : Int32))
/-! X6_addsRule -/
def s_X6_addsRule_128 (E : zE) (a0 : Option Nat) (b0 : Option Nat) (b1 : Int32) : zM := zC (zRv b0 [(34, fun b => s_X6_isRefused E (some b) b1 (4 : Int32) (8 : Int32))]) zThr (zKI (fun v131 => if v131 = 0 then (zGetR a0 34 0 (fun v142 => zGaI 0 v142 (3 : Int32) (fun v146 => zRet (some (.int v146))))) else (zRet (some (.int (0 : Int32))))))
theorem w_X6_addsRule_128 (x : zCx p l R s m args meth c E D tA cX6_addsRule 6 yX6_addsRule.cls 14) (hl : l.stackTraces = false) (hret : meth.sig.returnType = (Option.some Jvm.ClassFile.FieldType.int)) (hnm : meth.name = yX6_addsRule.name) (htab : ∀ z ∈ c.exceptionTable.toList, False) (a0 : Option Nat) (b0 : Option Nat) (b1 : Int32) : zW p l e R s m args below meth c E D tA 6 k0 (s_X6_addsRule_128 E a0 b0 b1) [(0, zP a0)] 128 [zI b1, zP b0] := by
  unfold s_X6_addsRule_128
  refine z_iconst (pc := 128) x (v := (4 : Int32)) dX6_addsRule_128 rfl ?_
  refine z_bipush (pc := 129) x (v := (8 : Int32)) dX6_addsRule_129 rfl ?_
  refine z_call (pc := 131) (z_canV (pc := 131) (As := [zI b1, zI (4 : Int32), zI (8 : Int32)]) (st := []) x (ci := 34) rfl (fun b => m_X6_isRefused hl (some b) b1 (4 : Int32) (8 : Int32)) q3277 q3279 (z_selP x (ci := 34) rfl (by decide) (zNi_inst x q2780) q3278 q3279) q121 q3280 n_X6_isRefused ⟨by decide, by decide⟩ (Nat.le_of_ble_eq_true rfl) dX6_addsRule_131) (zv_I fun v131 => ?_) (fun q => zx_thr x (fun z hz => (htab z hz).elim) q)
  refine z_if_eq (pc := 134) (tgt := 141) x dX6_addsRule_134 rfl (fun _ => ?_) (fun _ => ?_)
  · refine z_aload_n (pc := 141) x 0 dX6_addsRule_141 rfl rfl ?_
    refine z_get (pc := 142) (fun _ _ h => zAsR_eq h) x in_X6 (ci := 34) rfl (k := 0) (by decide) q2785 (fun _ h => h) dX6_addsRule_142 fun v142 => ?_
    refine z_iconst (pc := 145) x (v := (3 : Int32)) dX6_addsRule_145 rfl ?_
    refine z_iald (pc := 146) x (t := 0) rfl dX6_addsRule_146 fun v146 => ?_
    exact z_iret (pc := 147) x hret dX6_addsRule_147
  · refine z_iconst (pc := 137) x (v := (0 : Int32)) dX6_addsRule_137 rfl ?_
    refine z_goto (pc := 138) (tgt := 147) x dX6_addsRule_138 rfl ?_
    exact z_iret (pc := 147) x hret dX6_addsRule_147
def s_X6_addsRule_106 (E : zE) (a0 : Option Nat) (a2 : Int32) (a3 : Int32) (b0 : Option Nat) (b1 : Int32) : zM := zC (zRv b0 [(34, fun b => s_X6_isRefused E (some b) b1 (3 : Int32) a2)]) zThr (zKI (fun v108 => if v108 = 0 then (if a3 = (8 : Int32) then (s_X6_addsRule_128 E a0 a0 (1 : Int32)) else (s_X6_addsRule_128 E a0 a0 (0 : Int32))) else (zRet (some (.int (0 : Int32))))))
theorem w_X6_addsRule_106 (x : zCx p l R s m args meth c E D tA cX6_addsRule 6 yX6_addsRule.cls 14) (hl : l.stackTraces = false) (hret : meth.sig.returnType = (Option.some Jvm.ClassFile.FieldType.int)) (hnm : meth.name = yX6_addsRule.name) (htab : ∀ z ∈ c.exceptionTable.toList, False) (a0 : Option Nat) (a2 : Int32) (a3 : Int32) (b0 : Option Nat) (b1 : Int32) : zW p l e R s m args below meth c E D tA 6 k0 (s_X6_addsRule_106 E a0 a2 a3 b0 b1) [(0, zP a0), (2, zI a2), (3, zI a3)] 106 [zI b1, zP b0] := by
  unfold s_X6_addsRule_106
  refine z_iconst (pc := 106) x (v := (3 : Int32)) dX6_addsRule_106 rfl ?_
  refine z_iload_n (pc := 107) x 1 dX6_addsRule_107 rfl rfl ?_
  refine z_call (pc := 108) (z_canV (pc := 108) (As := [zI b1, zI (3 : Int32), zI a2]) (st := []) x (ci := 34) rfl (fun b => m_X6_isRefused hl (some b) b1 (3 : Int32) a2) q3277 q3279 (z_selP x (ci := 34) rfl (by decide) (zNi_inst x q2780) q3278 q3279) q121 q3280 n_X6_isRefused ⟨by decide, by decide⟩ (Nat.le_of_ble_eq_true rfl) dX6_addsRule_108) (zv_I fun v108 => ?_) (fun q => zx_thr x (fun z hz => (htab z hz).elim) q)
  refine z_if_eq (pc := 111) (tgt := 116) x dX6_addsRule_111 rfl (fun _ => ?_) (fun _ => ?_)
  · refine z_aload_n (pc := 116) x 0 dX6_addsRule_116 rfl rfl ?_
    refine z_iload_n (pc := 117) x 2 dX6_addsRule_117 rfl rfl ?_
    refine z_bipush (pc := 118) x (v := (8 : Int32)) dX6_addsRule_118 rfl ?_
    refine z_icmp_ne (pc := 120) (tgt := 127) x dX6_addsRule_120 rfl (fun _ => ?_) (fun _ => ?_)
    · refine z_iconst (pc := 123) x (v := (1 : Int32)) dX6_addsRule_123 rfl ?_
      refine z_goto (pc := 124) (tgt := 128) x dX6_addsRule_124 rfl ?_
      exact z_sub [0] rfl (w_X6_addsRule_128 x hl hret hnm htab a0 a0 (1 : Int32))
    · refine z_iconst (pc := 127) x (v := (0 : Int32)) dX6_addsRule_127 rfl ?_
      exact z_sub [0] rfl (w_X6_addsRule_128 x hl hret hnm htab a0 a0 (0 : Int32))
  · refine z_iconst (pc := 114) x (v := (0 : Int32)) dX6_addsRule_114 rfl ?_
    exact z_iret (pc := 115) x hret dX6_addsRule_115
def s_X6_addsRule_84 (E : zE) (a0 : Option Nat) (a2 : Int32) (a3 : Int32) (a5 : Int32) (b0 : Option Nat) (b1 : Int32) : zM := zC (zRv b0 [(34, fun b => s_X6_isRefused E (some b) b1 (2 : Int32) a5)]) zThr (zKI (fun v87 => if v87 = 0 then (zC (zRv a0 [(34, fun b => s_X6_isLayered E (some b))]) zThr (zKI (fun v95 => if v95 = 0 then (s_X6_addsRule_106 E a0 a2 a3 a0 (1 : Int32)) else (s_X6_addsRule_106 E a0 a2 a3 a0 (0 : Int32))))) else (zRet (some (.int (0 : Int32))))))
theorem w_X6_addsRule_84 (x : zCx p l R s m args meth c E D tA cX6_addsRule 6 yX6_addsRule.cls 14) (hl : l.stackTraces = false) (hret : meth.sig.returnType = (Option.some Jvm.ClassFile.FieldType.int)) (hnm : meth.name = yX6_addsRule.name) (htab : ∀ z ∈ c.exceptionTable.toList, False) (a0 : Option Nat) (a2 : Int32) (a3 : Int32) (a5 : Int32) (b0 : Option Nat) (b1 : Int32) : zW p l e R s m args below meth c E D tA 6 k0 (s_X6_addsRule_84 E a0 a2 a3 a5 b0 b1) [(0, zP a0), (2, zI a2), (3, zI a3), (5, zI a5)] 84 [zI b1, zP b0] := by
  unfold s_X6_addsRule_84
  refine z_iconst (pc := 84) x (v := (2 : Int32)) dX6_addsRule_84 rfl ?_
  refine z_iload (pc := 85) x 3 dX6_addsRule_85 rfl ?_
  refine z_call (pc := 87) (z_canV (pc := 87) (As := [zI b1, zI (2 : Int32), zI a5]) (st := []) x (ci := 34) rfl (fun b => m_X6_isRefused hl (some b) b1 (2 : Int32) a5) q3277 q3279 (z_selP x (ci := 34) rfl (by decide) (zNi_inst x q2780) q3278 q3279) q121 q3280 n_X6_isRefused ⟨by decide, by decide⟩ (Nat.le_of_ble_eq_true rfl) dX6_addsRule_87) (zv_I fun v87 => ?_) (fun q => zx_thr x (fun z hz => (htab z hz).elim) q)
  refine z_if_ne (pc := 90) (tgt := 114) x dX6_addsRule_90 rfl (fun _ => ?_) (fun _ => ?_)
  · refine z_aload_n (pc := 93) x 0 dX6_addsRule_93 rfl rfl ?_
    refine z_aload_n (pc := 94) x 0 dX6_addsRule_94 rfl rfl ?_
    refine z_call (pc := 95) (z_canV (pc := 95) (As := []) (st := [zP a0]) x (ci := 34) rfl (fun b => m_X6_isLayered hl (some b)) q3281 q3283 (z_selP x (ci := 34) rfl (by decide) (zNi_inst x q2780) q3282 q3283) q121 q3284 n_X6_isLayered ⟨by decide, by decide⟩ (Nat.le_of_ble_eq_true rfl) dX6_addsRule_95) (zv_I fun v95 => ?_) (fun q => zx_thr x (fun z hz => (htab z hz).elim) q)
    refine z_if_ne (pc := 98) (tgt := 105) x dX6_addsRule_98 rfl (fun _ => ?_) (fun _ => ?_)
    · refine z_iconst (pc := 101) x (v := (1 : Int32)) dX6_addsRule_101 rfl ?_
      refine z_goto (pc := 102) (tgt := 106) x dX6_addsRule_102 rfl ?_
      exact z_sub [0, 1, 2] rfl (w_X6_addsRule_106 x hl hret hnm htab a0 a2 a3 a0 (1 : Int32))
    · refine z_iconst (pc := 105) x (v := (0 : Int32)) dX6_addsRule_105 rfl ?_
      exact z_sub [0, 1, 2] rfl (w_X6_addsRule_106 x hl hret hnm htab a0 a2 a3 a0 (0 : Int32))
  · refine z_iconst (pc := 114) x (v := (0 : Int32)) dX6_addsRule_114 rfl ?_
    exact z_iret (pc := 115) x hret dX6_addsRule_115
def s_X6_addsRule_64 (E : zE) (a0 : Option Nat) (a2 : Int32) (a3 : Int32) (a4 : Int32) (a5 : Int32) (b0 : Option Nat) (b1 : Int32) : zM := zC (zRv b0 [(34, fun b => s_X6_isRefused E (some b) b1 (1 : Int32) a4)]) zThr (zKI (fun v67 => if v67 = 0 then (if a5 < 0 then (s_X6_addsRule_84 E a0 a2 a3 a5 a0 (0 : Int32)) else (s_X6_addsRule_84 E a0 a2 a3 a5 a0 (1 : Int32))) else (zRet (some (.int (0 : Int32))))))
theorem w_X6_addsRule_64 (x : zCx p l R s m args meth c E D tA cX6_addsRule 6 yX6_addsRule.cls 14) (hl : l.stackTraces = false) (hret : meth.sig.returnType = (Option.some Jvm.ClassFile.FieldType.int)) (hnm : meth.name = yX6_addsRule.name) (htab : ∀ z ∈ c.exceptionTable.toList, False) (a0 : Option Nat) (a2 : Int32) (a3 : Int32) (a4 : Int32) (a5 : Int32) (b0 : Option Nat) (b1 : Int32) : zW p l e R s m args below meth c E D tA 6 k0 (s_X6_addsRule_64 E a0 a2 a3 a4 a5 b0 b1) [(0, zP a0), (2, zI a2), (3, zI a3), (4, zI a4), (5, zI a5)] 64 [zI b1, zP b0] := by
  unfold s_X6_addsRule_64
  refine z_iconst (pc := 64) x (v := (1 : Int32)) dX6_addsRule_64 rfl ?_
  refine z_iload (pc := 65) x 3 dX6_addsRule_65 rfl ?_
  refine z_call (pc := 67) (z_canV (pc := 67) (As := [zI b1, zI (1 : Int32), zI a4]) (st := []) x (ci := 34) rfl (fun b => m_X6_isRefused hl (some b) b1 (1 : Int32) a4) q3277 q3279 (z_selP x (ci := 34) rfl (by decide) (zNi_inst x q2780) q3278 q3279) q121 q3280 n_X6_isRefused ⟨by decide, by decide⟩ (Nat.le_of_ble_eq_true rfl) dX6_addsRule_67) (zv_I fun v67 => ?_) (fun q => zx_thr x (fun z hz => (htab z hz).elim) q)
  refine z_if_ne (pc := 70) (tgt := 114) x dX6_addsRule_70 rfl (fun _ => ?_) (fun _ => ?_)
  · refine z_aload_n (pc := 73) x 0 dX6_addsRule_73 rfl rfl ?_
    refine z_iload (pc := 74) x 4 dX6_addsRule_74 rfl ?_
    refine z_if_lt (pc := 76) (tgt := 83) x dX6_addsRule_76 rfl (fun _ => ?_) (fun _ => ?_)
    · refine z_iconst (pc := 83) x (v := (0 : Int32)) dX6_addsRule_83 rfl ?_
      exact z_sub [0, 1, 2, 4] rfl (w_X6_addsRule_84 x hl hret hnm htab a0 a2 a3 a5 a0 (0 : Int32))
    · refine z_iconst (pc := 79) x (v := (1 : Int32)) dX6_addsRule_79 rfl ?_
      refine z_goto (pc := 80) (tgt := 84) x dX6_addsRule_80 rfl ?_
      exact z_sub [0, 1, 2, 4] rfl (w_X6_addsRule_84 x hl hret hnm htab a0 a2 a3 a5 a0 (1 : Int32))
  · refine z_iconst (pc := 114) x (v := (0 : Int32)) dX6_addsRule_114 rfl ?_
    exact z_iret (pc := 115) x hret dX6_addsRule_115
def s_X6_addsRule (E : zE) (a0 : Option Nat) (a1 : Int32) : zM := zC (zRv a0 [(34, fun b => s_X6_layers E (some b))]) zThr (zKV (zGetR a0 34 7 (fun v5 => zGetR a0 34 22 (fun v9 => zGaI 0 v9 a1 (fun v13 => zGaI 0 v5 v13 (fun v14 => zGetR a0 34 0 (fun v17 => zGaI 0 v17 (3 : Int32) (fun v21 => zC (zRv a0 [(34, fun b => s_X6_writesRule E (some b) a1 v21)]) zThr (zKV (zGetR a0 34 0 (fun v30 => zGaI 0 v30 (3 : Int32) (fun v35 => zSaI E 0 v30 (3 : Int32) (v35 + (1 : Int32)) (zC (zRv a0 [(34, fun b => s_X6_unsafe E (some b) v21)]) zThr (zKI (fun v41 => zC (zRv a0 [(34, fun b => s_X6_sameAs E (some b) v21)]) zThr (zKI (fun v48 => if v41 < 0 then (s_X6_addsRule_64 E a0 v14 v21 v41 v48 a0 (0 : Int32)) else (s_X6_addsRule_64 E a0 v14 v21 v41 v48 a0 (1 : Int32)))))))))))))))))))
theorem m_X6_addsRule {l : Launch} {E : zE} {D : va_G} {tA : Nat → ClassId} (hl : l.stackTraces = false) (a0 : Option Nat) (a1 : Int32) : zMet l E D tA yX6_addsRule (ws_ yX6_addsRule cX6_addsRule 6 (Option.some Jvm.ClassFile.FieldType.int)) 14 (s_X6_addsRule E a0 a1) [zP a0, zI a1] := by
  refine z_met hl (by decide +kernel) (by rw [zSl_len]; exact (Nat.le_of_ble_eq_true rfl)) fun p e R s m args below meth c k0 x hret hnm htab => ?_
  refine z_lv [(0, zP a0), (1, zI a1)] rfl ?_
  unfold s_X6_addsRule
  refine z_aload_n (pc := 0) x 0 dX6_addsRule_0 rfl rfl ?_
  refine z_call (pc := 1) (z_canV (pc := 1) (As := []) (st := []) x (ci := 34) rfl (fun b => m_X6_layers hl (some b)) q2931 q2933 (z_selP x (ci := 34) rfl (by decide) (zNi_inst x q2780) q2932 q2933) q121 q2934 n_X6_layers ⟨by decide, by decide⟩ (Nat.le_of_ble_eq_true rfl) dX6_addsRule_1) (zv_V ?_) (fun q => zx_thr x (fun z hz => (htab z hz).elim) q)
  refine z_aload_n (pc := 4) x 0 dX6_addsRule_4 rfl rfl ?_
  refine z_get (pc := 5) (fun _ _ h => zAsR_eq h) x in_X6 (ci := 34) rfl (k := 7) (by decide) q2792 (fun _ h => h) dX6_addsRule_5 fun v5 => ?_
  refine z_aload_n (pc := 8) x 0 dX6_addsRule_8 rfl rfl ?_
  refine z_get (pc := 9) (fun _ _ h => zAsR_eq h) x in_X6 (ci := 34) rfl (k := 22) (by decide) q2807 (fun _ h => h) dX6_addsRule_9 fun v9 => ?_
  refine z_iload_n (pc := 12) x 1 dX6_addsRule_12 rfl rfl ?_
  refine z_iald (pc := 13) x (t := 0) rfl dX6_addsRule_13 fun v13 => ?_
  refine z_iald (pc := 14) x (t := 0) rfl dX6_addsRule_14 fun v14 => ?_
  refine z_istore_n (pc := 15) (lv' := [(2, zI v14), (0, zP a0), (1, zI a1)]) x dX6_addsRule_15 rfl (Nat.le_of_ble_eq_true rfl) rfl ?_
  refine z_aload_n (pc := 16) x 1 dX6_addsRule_16 rfl rfl ?_
  refine z_get (pc := 17) (fun _ _ h => zAsR_eq h) x in_X6 (ci := 34) rfl (k := 0) (by decide) q2785 (fun _ h => h) dX6_addsRule_17 fun v17 => ?_
  refine z_iconst (pc := 20) x (v := (3 : Int32)) dX6_addsRule_20 rfl ?_
  refine z_iald (pc := 21) x (t := 0) rfl dX6_addsRule_21 fun v21 => ?_
  refine z_istore_n (pc := 22) (lv' := [(3, zI v21), (2, zI v14), (0, zP a0), (1, zI a1)]) x dX6_addsRule_22 rfl (Nat.le_of_ble_eq_true rfl) rfl ?_
  refine z_aload_n (pc := 23) x 2 dX6_addsRule_23 rfl rfl ?_
  refine z_iload_n (pc := 24) x 3 dX6_addsRule_24 rfl rfl ?_
  refine z_iload_n (pc := 25) x 0 dX6_addsRule_25 rfl rfl ?_
  refine z_call (pc := 26) (z_canV (pc := 26) (As := [zI a1, zI v21]) (st := []) x (ci := 34) rfl (fun b => m_X6_writesRule hl (some b) a1 v21) q3257 q3259 (z_selP x (ci := 34) rfl (by decide) (zNi_inst x q2780) q3258 q3259) q121 q3260 n_X6_writesRule ⟨by decide, by decide⟩ (Nat.le_of_ble_eq_true rfl) dX6_addsRule_26) (zv_V ?_) (fun q => zx_thr x (fun z hz => (htab z hz).elim) q)
  refine z_aload_n (pc := 29) x 2 dX6_addsRule_29 rfl rfl ?_
  refine z_get (pc := 30) (fun _ _ h => zAsR_eq h) x in_X6 (ci := 34) rfl (k := 0) (by decide) q2785 (fun _ h => h) dX6_addsRule_30 fun v30 => ?_
  refine z_iconst (pc := 33) x (v := (3 : Int32)) dX6_addsRule_33 rfl ?_
  refine z_dup2 (pc := 34) x dX6_addsRule_34 rfl rfl ?_
  refine z_iald (pc := 35) x (t := 0) rfl dX6_addsRule_35 fun v35 => ?_
  refine z_iconst (pc := 36) x (v := (1 : Int32)) dX6_addsRule_36 rfl ?_
  refine z_iadd (pc := 37) x dX6_addsRule_37 ?_
  refine z_iast (pc := 38) x (t := 0) rfl dX6_addsRule_38 ?_
  refine z_aload_n (pc := 39) x 2 dX6_addsRule_39 rfl rfl ?_
  refine z_iload_n (pc := 40) x 0 dX6_addsRule_40 rfl rfl ?_
  refine z_call (pc := 41) (z_canV (pc := 41) (As := [zI v21]) (st := []) x (ci := 34) rfl (fun b => m_X6_unsafe hl (some b) v21) q3261 q3263 (z_selP x (ci := 34) rfl (by decide) (zNi_inst x q2780) q3262 q3263) q121 q3264 n_X6_unsafe ⟨by decide, by decide⟩ (Nat.le_of_ble_eq_true rfl) dX6_addsRule_41) (zv_I fun v41 => ?_) (fun q => zx_thr x (fun z hz => (htab z hz).elim) q)
  refine z_istore (pc := 44) (lv' := [(4, zI v41), (3, zI v21), (2, zI v14), (0, zP a0), (1, zI a1)]) x dX6_addsRule_44 (Nat.le_of_ble_eq_true rfl) rfl ?_
  refine z_aload_n (pc := 46) x 3 dX6_addsRule_46 rfl rfl ?_
  refine z_iload_n (pc := 47) x 1 dX6_addsRule_47 rfl rfl ?_
  refine z_call (pc := 48) (z_canV (pc := 48) (As := [zI v21]) (st := []) x (ci := 34) rfl (fun b => m_X6_sameAs hl (some b) v21) q3269 q3271 (z_selP x (ci := 34) rfl (by decide) (zNi_inst x q2780) q3270 q3271) q121 q3272 n_X6_sameAs ⟨by decide, by decide⟩ (Nat.le_of_ble_eq_true rfl) dX6_addsRule_48) (zv_I fun v48 => ?_) (fun q => zx_thr x (fun z hz => (htab z hz).elim) q)
  refine z_istore (pc := 51) (lv' := [(5, zI v48), (4, zI v41), (3, zI v21), (2, zI v14), (0, zP a0), (1, zI a1)]) x dX6_addsRule_51 (Nat.le_of_ble_eq_true rfl) rfl ?_
  refine z_aload_n (pc := 53) x 4 dX6_addsRule_53 rfl rfl ?_
  refine z_iload (pc := 54) x 1 dX6_addsRule_54 rfl ?_
  refine z_if_lt (pc := 56) (tgt := 63) x dX6_addsRule_56 rfl (fun _ => ?_) (fun _ => ?_)
  · refine z_iconst (pc := 63) x (v := (0 : Int32)) dX6_addsRule_63 rfl ?_
    exact z_sub [4, 3, 2, 1, 0] rfl (w_X6_addsRule_64 x hl hret hnm htab a0 v14 v21 v41 v48 a0 (0 : Int32))
  · refine z_iconst (pc := 59) x (v := (1 : Int32)) dX6_addsRule_59 rfl ?_
    refine z_goto (pc := 60) (tgt := 64) x dX6_addsRule_60 rfl ?_
    exact z_sub [4, 3, 2, 1, 0] rfl (w_X6_addsRule_64 x hl hret hnm htab a0 v14 v21 v41 v48 a0 (1 : Int32))
/-! X6_does -/
def s_X6_does (E : zE) (a0 : Option Nat) (a1 : Int32) : zM := zGetR a0 34 22 (fun v1 => zGaI 0 v1 a1 (fun v5 => zGetR a0 34 22 (fun v8 => zGaI 0 v8 (a1 + (76 : Int32)) (fun v15 => if v15 = (100 : Int32) then (zC (zRv a0 [(34, fun b => s_X6_drops E (some b) v5)]) zThr (zKI (fun v104 => zRet (some (.int v104))))) else (if v15 = (102 : Int32) then (zGetR a0 34 22 (fun v58 => zGaI 0 v58 (a1 + (1 : Int32)) (fun v64 => zGetR a0 34 22 (fun v66 => zGaI 0 v66 (a1 + (2 : Int32)) (fun v72 => zC (zRv a0 [(34, fun b => s_X6_adds E (some b) (v5 + (97 : Int32)) v64 v72)]) zThr (zKI (fun v73 => zRet (some (.int v73))))))))) else (if v15 = (116 : Int32) then (zGetR a0 34 22 (fun v83 => zGaI 0 v83 (a1 + (1 : Int32)) (fun v89 => zGetR a0 34 22 (fun v91 => zGaI 0 v91 (a1 + (2 : Int32)) (fun v97 => zC (zRv a0 [(34, fun b => s_X6_takes E (some b) (v5 + (97 : Int32)) v89 v97)]) zThr (zKI (fun v98 => zRet (some (.int v98))))))))) else (zC (zRv a0 [(34, fun b => s_X6_addsRule E (some b) a1)]) zThr (zKI (fun v110 => zRet (some (.int v110)))))))))))
theorem m_X6_does {l : Launch} {E : zE} {D : va_G} {tA : Nat → ClassId} (hl : l.stackTraces = false) (a0 : Option Nat) (a1 : Int32) : zMet l E D tA yX6_does (ws_ yX6_does cX6_does 3 (Option.some Jvm.ClassFile.FieldType.int)) 15 (s_X6_does E a0 a1) [zP a0, zI a1] := by
  refine z_met hl (by decide +kernel) (by rw [zSl_len]; exact (Nat.le_of_ble_eq_true rfl)) fun p e R s m args below meth c k0 x hret hnm htab => ?_
  refine z_lv [(0, zP a0), (1, zI a1)] rfl ?_
  unfold s_X6_does
  refine z_aload_n (pc := 0) x 0 dX6_does_0 rfl rfl ?_
  refine z_get (pc := 1) (fun _ _ h => zAsR_eq h) x in_X6 (ci := 34) rfl (k := 22) (by decide) q2807 (fun _ h => h) dX6_does_1 fun v1 => ?_
  refine z_iload_n (pc := 4) x 1 dX6_does_4 rfl rfl ?_
  refine z_iald (pc := 5) x (t := 0) rfl dX6_does_5 fun v5 => ?_
  refine z_istore_n (pc := 6) (lv' := [(2, zI v5), (0, zP a0), (1, zI a1)]) x dX6_does_6 rfl (Nat.le_of_ble_eq_true rfl) rfl ?_
  refine z_aload_n (pc := 7) x 1 dX6_does_7 rfl rfl ?_
  refine z_get (pc := 8) (fun _ _ h => zAsR_eq h) x in_X6 (ci := 34) rfl (k := 22) (by decide) q2807 (fun _ h => h) dX6_does_8 fun v8 => ?_
  refine z_iload_n (pc := 11) x 2 dX6_does_11 rfl rfl ?_
  refine z_bipush (pc := 12) x (v := (76 : Int32)) dX6_does_12 rfl ?_
  refine z_iadd (pc := 14) x dX6_does_14 ?_
  refine z_iald (pc := 15) x (t := 0) rfl dX6_does_15 fun v15 => ?_
  refine z_ite (fun e16_1 => ?_) (fun e16_1 => ?_)
  · refine z_lookup (pc := 16) (tgt := 102) x (86) dX6_does_16 (by decide) (by rw [e16_1]; rfl) rfl ?_
    refine z_aload_n (pc := 102) x 1 dX6_does_102 rfl rfl ?_
    refine z_iload_n (pc := 103) x 0 dX6_does_103 rfl rfl ?_
    refine z_call (pc := 104) (z_canV (pc := 104) (As := [zI v5]) (st := []) x (ci := 34) rfl (fun b => m_X6_drops hl (some b) v5) q3020 q3022 (z_selP x (ci := 34) rfl (by decide) (zNi_inst x q2780) q3021 q3022) q121 q3023 n_X6_drops ⟨by decide, by decide⟩ (Nat.le_of_ble_eq_true rfl) dX6_does_104) (zv_I fun v104 => ?_) (fun q => zx_thr x (fun z hz => (htab z hz).elim) q)
    exact z_iret (pc := 107) x hret dX6_does_107
  refine z_ite (fun e16_2 => ?_) (fun e16_2 => ?_)
  · refine z_lookup (pc := 16) (tgt := 52) x (36) dX6_does_16 (by decide) (by rw [e16_2]; rfl) rfl ?_
    refine z_aload_n (pc := 52) x 1 dX6_does_52 rfl rfl ?_
    refine z_iload_n (pc := 53) x 0 dX6_does_53 rfl rfl ?_
    refine z_bipush (pc := 54) x (v := (97 : Int32)) dX6_does_54 rfl ?_
    refine z_iadd (pc := 56) x dX6_does_56 ?_
    refine z_aload_n (pc := 57) x 1 dX6_does_57 rfl rfl ?_
    refine z_get (pc := 58) (fun _ _ h => zAsR_eq h) x in_X6 (ci := 34) rfl (k := 22) (by decide) q2807 (fun _ h => h) dX6_does_58 fun v58 => ?_
    refine z_iload_n (pc := 61) x 2 dX6_does_61 rfl rfl ?_
    refine z_iconst (pc := 62) x (v := (1 : Int32)) dX6_does_62 rfl ?_
    refine z_iadd (pc := 63) x dX6_does_63 ?_
    refine z_iald (pc := 64) x (t := 0) rfl dX6_does_64 fun v64 => ?_
    refine z_aload_n (pc := 65) x 1 dX6_does_65 rfl rfl ?_
    refine z_get (pc := 66) (fun _ _ h => zAsR_eq h) x in_X6 (ci := 34) rfl (k := 22) (by decide) q2807 (fun _ h => h) dX6_does_66 fun v66 => ?_
    refine z_iload_n (pc := 69) x 2 dX6_does_69 rfl rfl ?_
    refine z_iconst (pc := 70) x (v := (2 : Int32)) dX6_does_70 rfl ?_
    refine z_iadd (pc := 71) x dX6_does_71 ?_
    refine z_iald (pc := 72) x (t := 0) rfl dX6_does_72 fun v72 => ?_
    refine z_call (pc := 73) (z_canV (pc := 73) (As := [zI (v5 + (97 : Int32)), zI v64, zI v72]) (st := []) x (ci := 34) rfl (fun b => m_X6_adds hl (some b) (v5 + (97 : Int32)) v64 v72) q2885 q2887 (z_selP x (ci := 34) rfl (by decide) (zNi_inst x q2780) q2886 q2887) q121 q2888 n_X6_adds ⟨by decide, by decide⟩ (Nat.le_of_ble_eq_true rfl) dX6_does_73) (zv_I fun v73 => ?_) (fun q => zx_thr x (fun z hz => (htab z hz).elim) q)
    exact z_iret (pc := 76) x hret dX6_does_76
  refine z_ite (fun e16_3 => ?_) (fun e16_3 => ?_)
  · refine z_lookup (pc := 16) (tgt := 77) x (61) dX6_does_16 (by decide) (by rw [e16_3]; rfl) rfl ?_
    refine z_aload_n (pc := 77) x 1 dX6_does_77 rfl rfl ?_
    refine z_iload_n (pc := 78) x 0 dX6_does_78 rfl rfl ?_
    refine z_bipush (pc := 79) x (v := (97 : Int32)) dX6_does_79 rfl ?_
    refine z_iadd (pc := 81) x dX6_does_81 ?_
    refine z_aload_n (pc := 82) x 1 dX6_does_82 rfl rfl ?_
    refine z_get (pc := 83) (fun _ _ h => zAsR_eq h) x in_X6 (ci := 34) rfl (k := 22) (by decide) q2807 (fun _ h => h) dX6_does_83 fun v83 => ?_
    refine z_iload_n (pc := 86) x 2 dX6_does_86 rfl rfl ?_
    refine z_iconst (pc := 87) x (v := (1 : Int32)) dX6_does_87 rfl ?_
    refine z_iadd (pc := 88) x dX6_does_88 ?_
    refine z_iald (pc := 89) x (t := 0) rfl dX6_does_89 fun v89 => ?_
    refine z_aload_n (pc := 90) x 1 dX6_does_90 rfl rfl ?_
    refine z_get (pc := 91) (fun _ _ h => zAsR_eq h) x in_X6 (ci := 34) rfl (k := 22) (by decide) q2807 (fun _ h => h) dX6_does_91 fun v91 => ?_
    refine z_iload_n (pc := 94) x 2 dX6_does_94 rfl rfl ?_
    refine z_iconst (pc := 95) x (v := (2 : Int32)) dX6_does_95 rfl ?_
    refine z_iadd (pc := 96) x dX6_does_96 ?_
    refine z_iald (pc := 97) x (t := 0) rfl dX6_does_97 fun v97 => ?_
    refine z_call (pc := 98) (z_canV (pc := 98) (As := [zI (v5 + (97 : Int32)), zI v89, zI v97]) (st := []) x (ci := 34) rfl (fun b => m_X6_takes hl (some b) (v5 + (97 : Int32)) v89 v97) q3004 q3006 (z_selP x (ci := 34) rfl (by decide) (zNi_inst x q2780) q3005 q3006) q121 q3007 n_X6_takes ⟨by decide, by decide⟩ (Nat.le_of_ble_eq_true rfl) dX6_does_98) (zv_I fun v98 => ?_) (fun q => zx_thr x (fun z hz => (htab z hz).elim) q)
    exact z_iret (pc := 101) x hret dX6_does_101
  refine z_lookup (pc := 16) (tgt := 108) x (92) dX6_does_16 (by decide) (by show Op.lookupswitch.offset [(100, 86), (102, 36), (116, 61)] _ _ = _; rw [lv_osw (a := 100) e16_1 rfl, lv_osw (a := 102) e16_2 rfl, lv_osw (a := 116) e16_3 rfl]; rfl) rfl ?_
  refine z_aload_n (pc := 108) x 1 dX6_does_108 rfl rfl ?_
  refine z_iload_n (pc := 109) x 2 dX6_does_109 rfl rfl ?_
  refine z_call (pc := 110) (z_canV (pc := 110) (As := [zI a1]) (st := []) x (ci := 34) rfl (fun b => m_X6_addsRule hl (some b) a1) q3253 q3255 (z_selP x (ci := 34) rfl (by decide) (zNi_inst x q2780) q3254 q3255) q121 q3256 n_X6_addsRule ⟨by decide, by decide⟩ (Nat.le_of_ble_eq_true rfl) dX6_does_110) (zv_I fun v110 => ?_) (fun q => zx_thr x (fun z hz => (htab z hz).elim) q)
  exact z_iret (pc := 113) x hret dX6_does_113
/-! X6_run -/
def s_X6_run_43 (E : zE) : Nat → Option Nat → Int32 → zM
  | 0, _, _ => zFail
  | n + 1, a0, a2 => zGetI a0 34 25 (fun v45 => if v45 ≤ a2 then (zGetI a0 34 25 (fun v113 => zC (zRv a0 [(34, fun b => s_X6_ends E (some b) v113)]) zThr (zKI (fun v116 => zRet (some (.int v116)))))) else (zSet E a0 34 13 (zVal (zI (0 : Int32))) (zC (zRv a0 [(34, fun b => s_X6_does E (some b) ((77 : Int32) * a2))]) zThr (zKI (fun v62 => zSet E a0 34 16 (zVal (zI v62)) (zGetI a0 34 13 (fun v69 => if v69 = 0 then ((s_X6_run_43 E n) a0 (a2 + (1 : Int32))) else (zGetR a0 34 1 (fun v76 => zGetR a0 34 0 (fun v81 => zC (s_X6_copies E v76 (0 : Int32) v81 (0 : Int32)) zThr (zKV (zSetN E .boolean a0 34 20 (0 : Int32) (zSet E a0 34 15 (zVal (zI a2)) (zSet E a0 34 13 (zVal (zI (2 : Int32))) (zRet (some (.int (0 : Int32))))))))))))))))))
theorem w_X6_run_43 (x : zCx p l R s m args meth c E D tA cX6_run 3 yX6_run.cls 18) (hl : l.stackTraces = false) (hret : meth.sig.returnType = (Option.some Jvm.ClassFile.FieldType.int)) (hnm : meth.name = yX6_run.name) (htab : ∀ z ∈ c.exceptionTable.toList, False) : ∀ (n : Nat) (a0 : Option Nat) (a2 : Int32), zW p l e R s m args below meth c E D tA 3 k0 (s_X6_run_43 E n a0 a2) [(0, zP a0), (2, zI a2)] 43 [] := by
  intro n
  induction n with
  | zero => intro a0 a2; exact z_fail
  | succ n h43 =>
    intro a0 a2
    rw [s_X6_run_43]
    refine z_iload_n (pc := 43) x 1 dX6_run_43 rfl rfl ?_
    refine z_aload_n (pc := 44) x 0 dX6_run_44 rfl rfl ?_
    refine z_get (pc := 45) (fun _ _ h => zAsI_eq h) x in_X6 (ci := 34) rfl (k := 25) (by decide) q2810 (fun _ h => h) dX6_run_45 fun v45 => ?_
    refine z_icmp_ge (pc := 48) (tgt := 111) x dX6_run_48 rfl (fun _ => ?_) (fun _ => ?_)
    · refine z_aload_n (pc := 111) x 0 dX6_run_111 rfl rfl ?_
      refine z_aload_n (pc := 112) x 0 dX6_run_112 rfl rfl ?_
      refine z_get (pc := 113) (fun _ _ h => zAsI_eq h) x in_X6 (ci := 34) rfl (k := 25) (by decide) q2810 (fun _ h => h) dX6_run_113 fun v113 => ?_
      refine z_call (pc := 116) (z_canV (pc := 116) (As := [zI v113]) (st := []) x (ci := 34) rfl (fun b => m_X6_ends hl (some b) v113) q2911 q2913 (z_selP x (ci := 34) rfl (by decide) (zNi_inst x q2780) q2912 q2913) q121 q2914 n_X6_ends ⟨by decide, by decide⟩ (Nat.le_of_ble_eq_true rfl) dX6_run_116) (zv_I fun v116 => ?_) (fun q => zx_thr x (fun z hz => (htab z hz).elim) q)
      exact z_iret (pc := 119) x hret dX6_run_119
    · refine z_aload_n (pc := 51) x 0 dX6_run_51 rfl rfl ?_
      refine z_iconst (pc := 52) x (v := (0 : Int32)) dX6_run_52 rfl ?_
      refine z_set (pc := 53) (v := zI (0 : Int32)) x in_X6 tyX6 tyX6_ok nmX6 (ci := 34) rfl (k := 13) (by decide) q2798 (fun _ h => h) rfl rfl rfl dX6_run_53 ?_
      refine z_aload_n (pc := 56) x 0 dX6_run_56 rfl rfl ?_
      refine z_aload_n (pc := 57) x 0 dX6_run_57 rfl rfl ?_
      refine z_bipush (pc := 58) x (v := (77 : Int32)) dX6_run_58 rfl ?_
      refine z_iload_n (pc := 60) x 1 dX6_run_60 rfl rfl ?_
      refine z_imul (pc := 61) x dX6_run_61 ?_
      refine z_call (pc := 62) (z_canV (pc := 62) (As := [zI ((77 : Int32) * a2)]) (st := [zP a0]) x (ci := 34) rfl (fun b => m_X6_does hl (some b) ((77 : Int32) * a2)) q3249 q3251 (z_selP x (ci := 34) rfl (by decide) (zNi_inst x q2780) q3250 q3251) q121 q3252 n_X6_does ⟨by decide, by decide⟩ (Nat.le_of_ble_eq_true rfl) dX6_run_62) (zv_I fun v62 => ?_) (fun q => zx_thr x (fun z hz => (htab z hz).elim) q)
      refine z_set (pc := 65) (v := zI v62) x in_X6 tyX6 tyX6_ok nmX6 (ci := 34) rfl (k := 16) (by decide) q2801 (fun _ h => h) rfl rfl rfl dX6_run_65 ?_
      refine z_aload_n (pc := 68) x 0 dX6_run_68 rfl rfl ?_
      refine z_get (pc := 69) (fun _ _ h => zAsI_eq h) x in_X6 (ci := 34) rfl (k := 13) (by decide) q2798 (fun _ h => h) dX6_run_69 fun v69 => ?_
      refine z_if_eq (pc := 72) (tgt := 105) x dX6_run_72 rfl (fun _ => ?_) (fun _ => ?_)
      · refine z_iinc (pc := 105) (lv' := [(2, zI (a2 + (1 : Int32))), (0, zP a0)]) x (v2 := (a2 + (1 : Int32))) 1 dX6_run_105 rfl rfl (Nat.le_of_ble_eq_true rfl) rfl ?_
        refine z_goto (pc := 108) (tgt := 43) x dX6_run_108 rfl ?_
        exact z_sub [1, 0] rfl (h43 a0 (a2 + (1 : Int32)))
      · refine z_aload_n (pc := 75) x 0 dX6_run_75 rfl rfl ?_
        refine z_get (pc := 76) (fun _ _ h => zAsR_eq h) x in_X6 (ci := 34) rfl (k := 1) (by decide) q2786 (fun _ h => h) dX6_run_76 fun v76 => ?_
        refine z_iconst (pc := 79) x (v := (0 : Int32)) dX6_run_79 rfl ?_
        refine z_aload_n (pc := 80) x 0 dX6_run_80 rfl rfl ?_
        refine z_get (pc := 81) (fun _ _ h => zAsR_eq h) x in_X6 (ci := 34) rfl (k := 0) (by decide) q2785 (fun _ h => h) dX6_run_81 fun v81 => ?_
        refine z_iconst (pc := 84) x (v := (0 : Int32)) dX6_run_84 rfl ?_
        refine z_call (pc := 85) (z_canS (pc := 85) (As := [zP v76, zI (0 : Int32), zP v81, zI (0 : Int32)]) (st := []) x (m_X6_copies hl v76 (0 : Int32) v81 (0 : Int32)) q2882 q2883 q121 q2884 n_X6_copies ⟨by decide, by decide⟩ (Nat.le_of_ble_eq_true rfl) dX6_run_85) (zv_V ?_) (fun q => zx_thr x (fun z hz => (htab z hz).elim) q)
        refine z_aload_n (pc := 88) x 0 dX6_run_88 rfl rfl ?_
        refine z_iconst (pc := 89) x (v := (0 : Int32)) dX6_run_89 rfl ?_
        refine z_set_small fun hn hf => ?_
        refine z_set (pc := 90) (v := zI (0 : Int32)) x in_X6 tyX6 tyX6_ok nmX6 (ci := 34) rfl (k := 20) (by decide) q2805 (fun _ h => h) rfl hn hf dX6_run_90 ?_
        refine z_aload_n (pc := 93) x 0 dX6_run_93 rfl rfl ?_
        refine z_iload_n (pc := 94) x 1 dX6_run_94 rfl rfl ?_
        refine z_set (pc := 95) (v := zI a2) x in_X6 tyX6 tyX6_ok nmX6 (ci := 34) rfl (k := 15) (by decide) q2800 (fun _ h => h) rfl rfl rfl dX6_run_95 ?_
        refine z_aload_n (pc := 98) x 0 dX6_run_98 rfl rfl ?_
        refine z_iconst (pc := 99) x (v := (2 : Int32)) dX6_run_99 rfl ?_
        refine z_set (pc := 100) (v := zI (2 : Int32)) x in_X6 tyX6 tyX6_ok nmX6 (ci := 34) rfl (k := 13) (by decide) q2798 (fun _ h => h) rfl rfl rfl dX6_run_100 ?_
        refine z_iconst (pc := 103) x (v := (0 : Int32)) dX6_run_103 rfl ?_
        exact z_iret (pc := 104) x hret dX6_run_104
def s_X6_run_20 (E : zE) (a0 : Option Nat) (b0 : Option Nat) (b1 : Int32) : zM := zC (zRv b0 [(34, fun b => s_X6_isThrown E (some b) b1 (1 : Int32))]) zThr (zKI (fun v21 => if v21 = 0 then (zC (zRv a0 [(34, fun b => s_X6_keeps E (some b))]) zThr (zKV (s_X6_run_43 E zN a0 (0 : Int32)))) else (zGetI a0 34 24 (fun v29 => zSet E a0 34 14 (zVal (zI v29)) (zRet (some (.int (0 : Int32))))))))
theorem w_X6_run_20 (x : zCx p l R s m args meth c E D tA cX6_run 3 yX6_run.cls 18) (hl : l.stackTraces = false) (hret : meth.sig.returnType = (Option.some Jvm.ClassFile.FieldType.int)) (hnm : meth.name = yX6_run.name) (htab : ∀ z ∈ c.exceptionTable.toList, False) (a0 : Option Nat) (b0 : Option Nat) (b1 : Int32) : zW p l e R s m args below meth c E D tA 3 k0 (s_X6_run_20 E a0 b0 b1) [(0, zP a0)] 20 [zI b1, zP b0] := by
  unfold s_X6_run_20
  refine z_iconst (pc := 20) x (v := (1 : Int32)) dX6_run_20 rfl ?_
  refine z_call (pc := 21) (z_canV (pc := 21) (As := [zI b1, zI (1 : Int32)]) (st := []) x (ci := 34) rfl (fun b => m_X6_isThrown hl (some b) b1 (1 : Int32)) q2898 q2900 (z_selP x (ci := 34) rfl (by decide) (zNi_inst x q2780) q2899 q2900) q121 q2901 n_X6_isThrown ⟨by decide, by decide⟩ (Nat.le_of_ble_eq_true rfl) dX6_run_21) (zv_I fun v21 => ?_) (fun q => zx_thr x (fun z hz => (htab z hz).elim) q)
  refine z_if_eq (pc := 24) (tgt := 37) x dX6_run_24 rfl (fun _ => ?_) (fun _ => ?_)
  · refine z_aload_n (pc := 37) x 0 dX6_run_37 rfl rfl ?_
    refine z_call (pc := 38) (z_canV (pc := 38) (As := []) (st := []) x (ci := 34) rfl (fun b => m_X6_keeps hl (some b)) q2878 q2880 (z_selP x (ci := 34) rfl (by decide) (zNi_inst x q2780) q2879 q2880) q121 q2881 n_X6_keeps ⟨by decide, by decide⟩ (Nat.le_of_ble_eq_true rfl) dX6_run_38) (zv_V ?_) (fun q => zx_thr x (fun z hz => (htab z hz).elim) q)
    refine z_iconst (pc := 41) x (v := (0 : Int32)) dX6_run_41 rfl ?_
    refine z_istore_n (pc := 42) (lv' := [(2, zI (0 : Int32)), (0, zP a0)]) x dX6_run_42 rfl (Nat.le_of_ble_eq_true rfl) rfl ?_
    exact z_sub [1, 0] rfl (w_X6_run_43 x hl hret hnm htab zN a0 (0 : Int32))
  · refine z_aload_n (pc := 27) x 0 dX6_run_27 rfl rfl ?_
    refine z_aload_n (pc := 28) x 0 dX6_run_28 rfl rfl ?_
    refine z_get (pc := 29) (fun _ _ h => zAsI_eq h) x in_X6 (ci := 34) rfl (k := 24) (by decide) q2809 (fun _ h => h) dX6_run_29 fun v29 => ?_
    refine z_set (pc := 32) (v := zI v29) x in_X6 tyX6 tyX6_ok nmX6 (ci := 34) rfl (k := 14) (by decide) q2799 (fun _ h => h) rfl rfl rfl dX6_run_32 ?_
    refine z_iconst (pc := 35) x (v := (0 : Int32)) dX6_run_35 rfl ?_
    exact z_iret (pc := 36) x hret dX6_run_36
def s_X6_run (E : zE) (a0 : Option Nat) : zM := zC (zRv a0 [(34, fun b => s_X6_isProgram E (some b))]) zThr (zKI (fun v1 => zSet E a0 34 23 (zVal (zI (0 : Int32))) (if v1 = 0 then (s_X6_run_20 E a0 a0 (1 : Int32)) else (s_X6_run_20 E a0 a0 (0 : Int32)))))
theorem m_X6_run {l : Launch} {E : zE} {D : va_G} {tA : Nat → ClassId} (hl : l.stackTraces = false) (a0 : Option Nat) : zMet l E D tA yX6_run (ws_ yX6_run cX6_run 3 (Option.some Jvm.ClassFile.FieldType.int)) 18 (s_X6_run E a0) [zP a0] := by
  refine z_met hl (by decide +kernel) (by rw [zSl_len]; exact (Nat.le_of_ble_eq_true rfl)) fun p e R s m args below meth c k0 x hret hnm htab => ?_
  refine z_lv [(0, zP a0)] rfl ?_
  unfold s_X6_run
  refine z_aload_n (pc := 0) x 0 dX6_run_0 rfl rfl ?_
  refine z_call (pc := 1) (z_canV (pc := 1) (As := []) (st := []) x (ci := 34) rfl (fun b => m_X6_isProgram hl (some b)) q3199 q3201 (z_selP x (ci := 34) rfl (by decide) (zNi_inst x q2780) q3200 q3201) q121 q3202 n_X6_isProgram ⟨by decide, by decide⟩ (Nat.le_of_ble_eq_true rfl) dX6_run_1) (zv_I fun v1 => ?_) (fun q => zx_thr x (fun z hz => (htab z hz).elim) q)
  refine z_istore_n (pc := 4) (lv' := [(1, zI v1), (0, zP a0)]) x dX6_run_4 rfl (Nat.le_of_ble_eq_true rfl) rfl ?_
  refine z_aload_n (pc := 5) x 1 dX6_run_5 rfl rfl ?_
  refine z_iconst (pc := 6) x (v := (0 : Int32)) dX6_run_6 rfl ?_
  refine z_set (pc := 7) (v := zI (0 : Int32)) x in_X6 tyX6 tyX6_ok nmX6 (ci := 34) rfl (k := 23) (by decide) q2808 (fun _ h => h) rfl rfl rfl dX6_run_7 ?_
  refine z_aload_n (pc := 10) x 1 dX6_run_10 rfl rfl ?_
  refine z_iload_n (pc := 11) x 0 dX6_run_11 rfl rfl ?_
  refine z_if_ne (pc := 12) (tgt := 19) x dX6_run_12 rfl (fun _ => ?_) (fun _ => ?_)
  · refine z_iconst (pc := 15) x (v := (1 : Int32)) dX6_run_15 rfl ?_
    refine z_goto (pc := 16) (tgt := 20) x dX6_run_16 rfl ?_
    exact z_sub [1] rfl (w_X6_run_20 x hl hret hnm htab a0 a0 (1 : Int32))
  · refine z_iconst (pc := 19) x (v := (0 : Int32)) dX6_run_19 rfl ?_
    exact z_sub [1] rfl (w_X6_run_20 x hl hret hnm htab a0 a0 (0 : Int32))
/-! X6_errorPosition -/
def s_X6_errorPosition_13 (E : zE) (a0 : Option Nat) (b0 : Option Nat) (b1 : Int32) : zM := zC (zRv b0 [(34, fun b => s_X6_isThrown E (some b) b1 (1 : Int32))]) zThr (zKI (fun v14 => if v14 = 0 then (zGetI a0 34 14 (fun v25 => zRet (some (.int v25)))) else (zRet (some (.int (0 : Int32))))))
theorem w_X6_errorPosition_13 (x : zCx p l R s m args meth c E D tA cX6_errorPosition 1 yX6_errorPosition.cls 10) (hl : l.stackTraces = false) (hret : meth.sig.returnType = (Option.some Jvm.ClassFile.FieldType.int)) (hnm : meth.name = yX6_errorPosition.name) (htab : ∀ z ∈ c.exceptionTable.toList, False) (a0 : Option Nat) (b0 : Option Nat) (b1 : Int32) : zW p l e R s m args below meth c E D tA 1 k0 (s_X6_errorPosition_13 E a0 b0 b1) [(0, zP a0)] 13 [zI b1, zP b0] := by
  unfold s_X6_errorPosition_13
  refine z_iconst (pc := 13) x (v := (1 : Int32)) dX6_errorPosition_13 rfl ?_
  refine z_call (pc := 14) (z_canV (pc := 14) (As := [zI b1, zI (1 : Int32)]) (st := []) x (ci := 34) rfl (fun b => m_X6_isThrown hl (some b) b1 (1 : Int32)) q2898 q2900 (z_selP x (ci := 34) rfl (by decide) (zNi_inst x q2780) q2899 q2900) q121 q2901 n_X6_isThrown ⟨by decide, by decide⟩ (Nat.le_of_ble_eq_true rfl) dX6_errorPosition_14) (zv_I fun v14 => ?_) (fun q => zx_thr x (fun z hz => (htab z hz).elim) q)
  refine z_if_eq (pc := 17) (tgt := 24) x dX6_errorPosition_17 rfl (fun _ => ?_) (fun _ => ?_)
  · refine z_aload_n (pc := 24) x 0 dX6_errorPosition_24 rfl rfl ?_
    refine z_get (pc := 25) (fun _ _ h => zAsI_eq h) x in_X6 (ci := 34) rfl (k := 14) (by decide) q2799 (fun _ h => h) dX6_errorPosition_25 fun v25 => ?_
    exact z_iret (pc := 28) x hret dX6_errorPosition_28
  · refine z_iconst (pc := 20) x (v := (0 : Int32)) dX6_errorPosition_20 rfl ?_
    refine z_goto (pc := 21) (tgt := 28) x dX6_errorPosition_21 rfl ?_
    exact z_iret (pc := 28) x hret dX6_errorPosition_28
def s_X6_errorPosition (E : zE) (a0 : Option Nat) : zM := zGetI a0 34 14 (fun v2 => if 0 ≤ v2 then (s_X6_errorPosition_13 E a0 a0 (0 : Int32)) else (s_X6_errorPosition_13 E a0 a0 (1 : Int32)))
theorem m_X6_errorPosition {l : Launch} {E : zE} {D : va_G} {tA : Nat → ClassId} (hl : l.stackTraces = false) (a0 : Option Nat) : zMet l E D tA yX6_errorPosition (ws_ yX6_errorPosition cX6_errorPosition 1 (Option.some Jvm.ClassFile.FieldType.int)) 10 (s_X6_errorPosition E a0) [zP a0] := by
  refine z_met hl (by decide +kernel) (by rw [zSl_len]; exact (Nat.le_of_ble_eq_true rfl)) fun p e R s m args below meth c k0 x hret hnm htab => ?_
  refine z_lv [(0, zP a0)] rfl ?_
  unfold s_X6_errorPosition
  refine z_aload_n (pc := 0) x 0 dX6_errorPosition_0 rfl rfl ?_
  refine z_aload_n (pc := 1) x 0 dX6_errorPosition_1 rfl rfl ?_
  refine z_get (pc := 2) (fun _ _ h => zAsI_eq h) x in_X6 (ci := 34) rfl (k := 14) (by decide) q2799 (fun _ h => h) dX6_errorPosition_2 fun v2 => ?_
  refine z_if_ge (pc := 5) (tgt := 12) x dX6_errorPosition_5 rfl (fun _ => ?_) (fun _ => ?_)
  · refine z_iconst (pc := 12) x (v := (0 : Int32)) dX6_errorPosition_12 rfl ?_
    exact z_sub [0] rfl (w_X6_errorPosition_13 x hl hret hnm htab a0 a0 (0 : Int32))
  · refine z_iconst (pc := 8) x (v := (1 : Int32)) dX6_errorPosition_8 rfl ?_
    refine z_goto (pc := 9) (tgt := 13) x dX6_errorPosition_9 rfl ?_
    exact z_sub [0] rfl (w_X6_errorPosition_13 x hl hret hnm htab a0 a0 (1 : Int32))
/-! X6_failedCommand -/
def s_X6_failedCommand_13 (E : zE) (a0 : Option Nat) (b0 : Option Nat) (b1 : Int32) : zM := zC (zRv b0 [(34, fun b => s_X6_isThrown E (some b) b1 (1 : Int32))]) zThr (zKI (fun v14 => if v14 = 0 then (zGetI a0 34 15 (fun v25 => zRet (some (.int v25)))) else (zRet (some (.int (0 : Int32))))))
theorem w_X6_failedCommand_13 (x : zCx p l R s m args meth c E D tA cX6_failedCommand 1 yX6_failedCommand.cls 10) (hl : l.stackTraces = false) (hret : meth.sig.returnType = (Option.some Jvm.ClassFile.FieldType.int)) (hnm : meth.name = yX6_failedCommand.name) (htab : ∀ z ∈ c.exceptionTable.toList, False) (a0 : Option Nat) (b0 : Option Nat) (b1 : Int32) : zW p l e R s m args below meth c E D tA 1 k0 (s_X6_failedCommand_13 E a0 b0 b1) [(0, zP a0)] 13 [zI b1, zP b0] := by
  unfold s_X6_failedCommand_13
  refine z_iconst (pc := 13) x (v := (1 : Int32)) dX6_failedCommand_13 rfl ?_
  refine z_call (pc := 14) (z_canV (pc := 14) (As := [zI b1, zI (1 : Int32)]) (st := []) x (ci := 34) rfl (fun b => m_X6_isThrown hl (some b) b1 (1 : Int32)) q2898 q2900 (z_selP x (ci := 34) rfl (by decide) (zNi_inst x q2780) q2899 q2900) q121 q2901 n_X6_isThrown ⟨by decide, by decide⟩ (Nat.le_of_ble_eq_true rfl) dX6_failedCommand_14) (zv_I fun v14 => ?_) (fun q => zx_thr x (fun z hz => (htab z hz).elim) q)
  refine z_if_eq (pc := 17) (tgt := 24) x dX6_failedCommand_17 rfl (fun _ => ?_) (fun _ => ?_)
  · refine z_aload_n (pc := 24) x 0 dX6_failedCommand_24 rfl rfl ?_
    refine z_get (pc := 25) (fun _ _ h => zAsI_eq h) x in_X6 (ci := 34) rfl (k := 15) (by decide) q2800 (fun _ h => h) dX6_failedCommand_25 fun v25 => ?_
    exact z_iret (pc := 28) x hret dX6_failedCommand_28
  · refine z_iconst (pc := 20) x (v := (0 : Int32)) dX6_failedCommand_20 rfl ?_
    refine z_goto (pc := 21) (tgt := 28) x dX6_failedCommand_21 rfl ?_
    exact z_iret (pc := 28) x hret dX6_failedCommand_28
def s_X6_failedCommand (E : zE) (a0 : Option Nat) : zM := zGetI a0 34 15 (fun v2 => if 0 ≤ v2 then (s_X6_failedCommand_13 E a0 a0 (0 : Int32)) else (s_X6_failedCommand_13 E a0 a0 (1 : Int32)))
theorem m_X6_failedCommand {l : Launch} {E : zE} {D : va_G} {tA : Nat → ClassId} (hl : l.stackTraces = false) (a0 : Option Nat) : zMet l E D tA yX6_failedCommand (ws_ yX6_failedCommand cX6_failedCommand 1 (Option.some Jvm.ClassFile.FieldType.int)) 10 (s_X6_failedCommand E a0) [zP a0] := by
  refine z_met hl (by decide +kernel) (by rw [zSl_len]; exact (Nat.le_of_ble_eq_true rfl)) fun p e R s m args below meth c k0 x hret hnm htab => ?_
  refine z_lv [(0, zP a0)] rfl ?_
  unfold s_X6_failedCommand
  refine z_aload_n (pc := 0) x 0 dX6_failedCommand_0 rfl rfl ?_
  refine z_aload_n (pc := 1) x 0 dX6_failedCommand_1 rfl rfl ?_
  refine z_get (pc := 2) (fun _ _ h => zAsI_eq h) x in_X6 (ci := 34) rfl (k := 15) (by decide) q2800 (fun _ h => h) dX6_failedCommand_2 fun v2 => ?_
  refine z_if_ge (pc := 5) (tgt := 12) x dX6_failedCommand_5 rfl (fun _ => ?_) (fun _ => ?_)
  · refine z_iconst (pc := 12) x (v := (0 : Int32)) dX6_failedCommand_12 rfl ?_
    exact z_sub [0] rfl (w_X6_failedCommand_13 x hl hret hnm htab a0 a0 (0 : Int32))
  · refine z_iconst (pc := 8) x (v := (1 : Int32)) dX6_failedCommand_8 rfl ?_
    refine z_goto (pc := 9) (tgt := 13) x dX6_failedCommand_9 rfl ?_
    exact z_sub [0] rfl (w_X6_failedCommand_13 x hl hret hnm htab a0 a0 (1 : Int32))
/-! X6_writes -/
def s_X6_writes (E : zE) (a0 : Option Nat) (a1 : Int32) : zM := zGetR a0 34 26 (fun v1 => zGetI a0 34 27 (fun v5 => zSaI E 0 v1 v5 a1 (zGetI a0 34 27 (fun v12 => zSet E a0 34 27 (zVal (zI (v12 + (1 : Int32)))) (zRet none)))))
theorem m_X6_writes {l : Launch} {E : zE} {D : va_G} {tA : Nat → ClassId} (hl : l.stackTraces = false) (a0 : Option Nat) (a1 : Int32) : zMet l E D tA yX6_writes (ws_ yX6_writes cX6_writes 2 (Option.none : Option Jvm.ClassFile.FieldType)) 9 (s_X6_writes E a0 a1) [zP a0, zI a1] := by
  refine z_met hl (by decide +kernel) (by rw [zSl_len]; exact (Nat.le_of_ble_eq_true rfl)) fun p e R s m args below meth c k0 x hret hnm htab => ?_
  refine z_lv [(0, zP a0), (1, zI a1)] rfl ?_
  unfold s_X6_writes
  refine z_aload_n (pc := 0) x 0 dX6_writes_0 rfl rfl ?_
  refine z_get (pc := 1) (fun _ _ h => zAsR_eq h) x in_X6 (ci := 34) rfl (k := 26) (by decide) q2811 (fun _ h => h) dX6_writes_1 fun v1 => ?_
  refine z_aload_n (pc := 4) x 0 dX6_writes_4 rfl rfl ?_
  refine z_get (pc := 5) (fun _ _ h => zAsI_eq h) x in_X6 (ci := 34) rfl (k := 27) (by decide) q2812 (fun _ h => h) dX6_writes_5 fun v5 => ?_
  refine z_iload_n (pc := 8) x 1 dX6_writes_8 rfl rfl ?_
  refine z_iast (pc := 9) x (t := 0) rfl dX6_writes_9 ?_
  refine z_aload_n (pc := 10) x 0 dX6_writes_10 rfl rfl ?_
  refine z_dup (pc := 11) x dX6_writes_11 rfl ?_
  refine z_get (pc := 12) (fun _ _ h => zAsI_eq h) x in_X6 (ci := 34) rfl (k := 27) (by decide) q2812 (fun _ h => h) dX6_writes_12 fun v12 => ?_
  refine z_iconst (pc := 15) x (v := (1 : Int32)) dX6_writes_15 rfl ?_
  refine z_iadd (pc := 16) x dX6_writes_16 ?_
  refine z_set (pc := 17) (v := zI (v12 + (1 : Int32))) x in_X6 tyX6 tyX6_ok nmX6 (ci := 34) rfl (k := 27) (by decide) q2812 (fun _ h => h) rfl rfl rfl dX6_writes_17 ?_
  exact z_vret (pc := 20) x hret dX6_writes_20
/-! X6_writeRule -/
def s_X6_writeRule_30 (E : zE) : Nat → Option Nat → Int32 → Int32 → zM
  | 0, _, _, _ => zFail
  | n + 1, a0, a1, a2 => zC (zRv a0 [(34, fun b => s_X6_of E (some b) a1 (16 : Int32))]) zThr (zKI (fun v35 => if v35 ≤ a2 then (zGetI a0 34 27 (fun v61 => zRet (some (.int v61)))) else (zC (zRv a0 [(34, fun b => s_X6_of E (some b) a1 ((17 : Int32) + a2))]) zThr (zKI (fun v48 => zC (zRv a0 [(34, fun b => s_X6_writes E (some b) v48)]) zThr (zKV ((s_X6_writeRule_30 E n) a0 a1 (a2 + (1 : Int32)))))))))
theorem w_X6_writeRule_30 (x : zCx p l R s m args meth c E D tA cX6_writeRule 3 yX6_writeRule.cls 11) (hl : l.stackTraces = false) (hret : meth.sig.returnType = (Option.some Jvm.ClassFile.FieldType.int)) (hnm : meth.name = yX6_writeRule.name) (htab : ∀ z ∈ c.exceptionTable.toList, False) : ∀ (n : Nat) (a0 : Option Nat) (a1 : Int32) (a2 : Int32), zW p l e R s m args below meth c E D tA 3 k0 (s_X6_writeRule_30 E n a0 a1 a2) [(0, zP a0), (1, zI a1), (2, zI a2)] 30 [] := by
  intro n
  induction n with
  | zero => intro a0 a1 a2; exact z_fail
  | succ n h30 =>
    intro a0 a1 a2
    rw [s_X6_writeRule_30]
    refine z_iload_n (pc := 30) x 2 dX6_writeRule_30 rfl rfl ?_
    refine z_aload_n (pc := 31) x 0 dX6_writeRule_31 rfl rfl ?_
    refine z_iload_n (pc := 32) x 1 dX6_writeRule_32 rfl rfl ?_
    refine z_bipush (pc := 33) x (v := (16 : Int32)) dX6_writeRule_33 rfl ?_
    refine z_call (pc := 35) (z_canV (pc := 35) (As := [zI a1, zI (16 : Int32)]) (st := [zI a2]) x (ci := 34) rfl (fun b => m_X6_of hl (some b) a1 (16 : Int32)) q2939 q2941 (z_selP x (ci := 34) rfl (by decide) (zNi_inst x q2780) q2940 q2941) q121 q2942 n_X6_of ⟨by decide, by decide⟩ (Nat.le_of_ble_eq_true rfl) dX6_writeRule_35) (zv_I fun v35 => ?_) (fun q => zx_thr x (fun z hz => (htab z hz).elim) q)
    refine z_icmp_ge (pc := 38) (tgt := 60) x dX6_writeRule_38 rfl (fun _ => ?_) (fun _ => ?_)
    · refine z_aload_n (pc := 60) x 0 dX6_writeRule_60 rfl rfl ?_
      refine z_get (pc := 61) (fun _ _ h => zAsI_eq h) x in_X6 (ci := 34) rfl (k := 27) (by decide) q2812 (fun _ h => h) dX6_writeRule_61 fun v61 => ?_
      exact z_iret (pc := 64) x hret dX6_writeRule_64
    · refine z_aload_n (pc := 41) x 0 dX6_writeRule_41 rfl rfl ?_
      refine z_aload_n (pc := 42) x 0 dX6_writeRule_42 rfl rfl ?_
      refine z_iload_n (pc := 43) x 1 dX6_writeRule_43 rfl rfl ?_
      refine z_bipush (pc := 44) x (v := (17 : Int32)) dX6_writeRule_44 rfl ?_
      refine z_iload_n (pc := 46) x 2 dX6_writeRule_46 rfl rfl ?_
      refine z_iadd (pc := 47) x dX6_writeRule_47 ?_
      refine z_call (pc := 48) (z_canV (pc := 48) (As := [zI a1, zI ((17 : Int32) + a2)]) (st := [zP a0]) x (ci := 34) rfl (fun b => m_X6_of hl (some b) a1 ((17 : Int32) + a2)) q2939 q2941 (z_selP x (ci := 34) rfl (by decide) (zNi_inst x q2780) q2940 q2941) q121 q2942 n_X6_of ⟨by decide, by decide⟩ (Nat.le_of_ble_eq_true rfl) dX6_writeRule_48) (zv_I fun v48 => ?_) (fun q => zx_thr x (fun z hz => (htab z hz).elim) q)
      refine z_call (pc := 51) (z_canV (pc := 51) (As := [zI v48]) (st := []) x (ci := 34) rfl (fun b => m_X6_writes hl (some b) v48) q3297 q3299 (z_selP x (ci := 34) rfl (by decide) (zNi_inst x q2780) q3298 q3299) q121 q3300 n_X6_writes ⟨by decide, by decide⟩ (Nat.le_of_ble_eq_true rfl) dX6_writeRule_51) (zv_V ?_) (fun q => zx_thr x (fun z hz => (htab z hz).elim) q)
      refine z_iinc (pc := 54) (lv' := [(2, zI (a2 + (1 : Int32))), (0, zP a0), (1, zI a1)]) x (v2 := (a2 + (1 : Int32))) 2 dX6_writeRule_54 rfl rfl (Nat.le_of_ble_eq_true rfl) rfl ?_
      refine z_goto (pc := 57) (tgt := 30) x dX6_writeRule_57 rfl ?_
      exact z_sub [1, 2, 0] rfl (h30 a0 a1 (a2 + (1 : Int32)))
def s_X6_writeRule_14 (E : zE) (a0 : Option Nat) (a1 : Int32) (b0 : Option Nat) (b1 : Int32) : zM := zC (zRv b0 [(34, fun b => s_X6_isThrown E (some b) b1 (1 : Int32))]) zThr (zKI (fun v15 => if v15 = 0 then (zSet E a0 34 27 (zVal (zI (0 : Int32))) (s_X6_writeRule_30 E zN a0 a1 (0 : Int32))) else (zRet (some (.int (0 : Int32))))))
theorem w_X6_writeRule_14 (x : zCx p l R s m args meth c E D tA cX6_writeRule 3 yX6_writeRule.cls 11) (hl : l.stackTraces = false) (hret : meth.sig.returnType = (Option.some Jvm.ClassFile.FieldType.int)) (hnm : meth.name = yX6_writeRule.name) (htab : ∀ z ∈ c.exceptionTable.toList, False) (a0 : Option Nat) (a1 : Int32) (b0 : Option Nat) (b1 : Int32) : zW p l e R s m args below meth c E D tA 3 k0 (s_X6_writeRule_14 E a0 a1 b0 b1) [(0, zP a0), (1, zI a1)] 14 [zI b1, zP b0] := by
  unfold s_X6_writeRule_14
  refine z_iconst (pc := 14) x (v := (1 : Int32)) dX6_writeRule_14 rfl ?_
  refine z_call (pc := 15) (z_canV (pc := 15) (As := [zI b1, zI (1 : Int32)]) (st := []) x (ci := 34) rfl (fun b => m_X6_isThrown hl (some b) b1 (1 : Int32)) q2898 q2900 (z_selP x (ci := 34) rfl (by decide) (zNi_inst x q2780) q2899 q2900) q121 q2901 n_X6_isThrown ⟨by decide, by decide⟩ (Nat.le_of_ble_eq_true rfl) dX6_writeRule_15) (zv_I fun v15 => ?_) (fun q => zx_thr x (fun z hz => (htab z hz).elim) q)
  refine z_if_eq (pc := 18) (tgt := 23) x dX6_writeRule_18 rfl (fun _ => ?_) (fun _ => ?_)
  · refine z_aload_n (pc := 23) x 0 dX6_writeRule_23 rfl rfl ?_
    refine z_iconst (pc := 24) x (v := (0 : Int32)) dX6_writeRule_24 rfl ?_
    refine z_set (pc := 25) (v := zI (0 : Int32)) x in_X6 tyX6 tyX6_ok nmX6 (ci := 34) rfl (k := 27) (by decide) q2812 (fun _ h => h) rfl rfl rfl dX6_writeRule_25 ?_
    refine z_iconst (pc := 28) x (v := (0 : Int32)) dX6_writeRule_28 rfl ?_
    refine z_istore_n (pc := 29) (lv' := [(2, zI (0 : Int32)), (0, zP a0), (1, zI a1)]) x dX6_writeRule_29 rfl (Nat.le_of_ble_eq_true rfl) rfl ?_
    exact z_sub [1, 2, 0] rfl (w_X6_writeRule_30 x hl hret hnm htab zN a0 a1 (0 : Int32))
  · refine z_iconst (pc := 21) x (v := (0 : Int32)) dX6_writeRule_21 rfl ?_
    exact z_iret (pc := 22) x hret dX6_writeRule_22
def s_X6_writeRule (E : zE) (a0 : Option Nat) (a1 : Int32) : zM := zC (zRv a0 [(34, fun b => s_X6_isRule E (some b) a1)]) zThr (zKI (fun v3 => if v3 = 0 then (s_X6_writeRule_14 E a0 a1 a0 (1 : Int32)) else (s_X6_writeRule_14 E a0 a1 a0 (0 : Int32))))
theorem m_X6_writeRule {l : Launch} {E : zE} {D : va_G} {tA : Nat → ClassId} (hl : l.stackTraces = false) (a0 : Option Nat) (a1 : Int32) : zMet l E D tA yX6_writeRule (ws_ yX6_writeRule cX6_writeRule 3 (Option.some Jvm.ClassFile.FieldType.int)) 11 (s_X6_writeRule E a0 a1) [zP a0, zI a1] := by
  refine z_met hl (by decide +kernel) (by rw [zSl_len]; exact (Nat.le_of_ble_eq_true rfl)) fun p e R s m args below meth c k0 x hret hnm htab => ?_
  refine z_lv [(0, zP a0), (1, zI a1)] rfl ?_
  unfold s_X6_writeRule
  refine z_aload_n (pc := 0) x 0 dX6_writeRule_0 rfl rfl ?_
  refine z_aload_n (pc := 1) x 0 dX6_writeRule_1 rfl rfl ?_
  refine z_iload_n (pc := 2) x 1 dX6_writeRule_2 rfl rfl ?_
  refine z_call (pc := 3) (z_canV (pc := 3) (As := [zI a1]) (st := [zP a0]) x (ci := 34) rfl (fun b => m_X6_isRule hl (some b) a1) q3024 q3026 (z_selP x (ci := 34) rfl (by decide) (zNi_inst x q2780) q3025 q3026) q121 q3027 n_X6_isRule ⟨by decide, by decide⟩ (Nat.le_of_ble_eq_true rfl) dX6_writeRule_3) (zv_I fun v3 => ?_) (fun q => zx_thr x (fun z hz => (htab z hz).elim) q)
  refine z_if_ne (pc := 6) (tgt := 13) x dX6_writeRule_6 rfl (fun _ => ?_) (fun _ => ?_)
  · refine z_iconst (pc := 9) x (v := (1 : Int32)) dX6_writeRule_9 rfl ?_
    refine z_goto (pc := 10) (tgt := 14) x dX6_writeRule_10 rfl ?_
    exact z_sub [0, 1] rfl (w_X6_writeRule_14 x hl hret hnm htab a0 a1 a0 (1 : Int32))
  · refine z_iconst (pc := 13) x (v := (0 : Int32)) dX6_writeRule_13 rfl ?_
    exact z_sub [0, 1] rfl (w_X6_writeRule_14 x hl hret hnm htab a0 a1 a0 (0 : Int32))
/-! X6_writesFact -/
def s_X6_writesFact_46 (E : zE) (a0 : Option Nat) (a1 : Int32) : zM := zRem a1 (10 : Int32) (fun v52 => zC (zRv a0 [(34, fun b => s_X6_writes E (some b) ((48 : Int32) + v52))]) zThr (zKV (zC (zRv a0 [(34, fun b => s_X6_writes E (some b) (41 : Int32))]) zThr (zKV (zRet none)))))
theorem w_X6_writesFact_46 (x : zCx p l R s m args meth c E D tA cX6_writesFact 3 yX6_writesFact.cls 10) (hl : l.stackTraces = false) (hret : meth.sig.returnType = (Option.none : Option Jvm.ClassFile.FieldType)) (hnm : meth.name = yX6_writesFact.name) (htab : ∀ z ∈ c.exceptionTable.toList, False) (a0 : Option Nat) (a1 : Int32) : zW p l e R s m args below meth c E D tA 3 k0 (s_X6_writesFact_46 E a0 a1) [(0, zP a0), (1, zI a1)] 46 [] := by
  unfold s_X6_writesFact_46
  refine z_aload_n (pc := 46) x 0 dX6_writesFact_46 rfl rfl ?_
  refine z_bipush (pc := 47) x (v := (48 : Int32)) dX6_writesFact_47 rfl ?_
  refine z_iload_n (pc := 49) x 1 dX6_writesFact_49 rfl rfl ?_
  refine z_bipush (pc := 50) x (v := (10 : Int32)) dX6_writesFact_50 rfl ?_
  refine z_irem (pc := 52) x dX6_writesFact_52 fun v52 => ?_
  refine z_iadd (pc := 53) x dX6_writesFact_53 ?_
  refine z_call (pc := 54) (z_canV (pc := 54) (As := [zI ((48 : Int32) + v52)]) (st := []) x (ci := 34) rfl (fun b => m_X6_writes hl (some b) ((48 : Int32) + v52)) q3297 q3299 (z_selP x (ci := 34) rfl (by decide) (zNi_inst x q2780) q3298 q3299) q121 q3300 n_X6_writes ⟨by decide, by decide⟩ (Nat.le_of_ble_eq_true rfl) dX6_writesFact_54) (zv_V ?_) (fun q => zx_thr x (fun z hz => (htab z hz).elim) q)
  refine z_aload_n (pc := 57) x 0 dX6_writesFact_57 rfl rfl ?_
  refine z_bipush (pc := 58) x (v := (41 : Int32)) dX6_writesFact_58 rfl ?_
  refine z_call (pc := 60) (z_canV (pc := 60) (As := [zI (41 : Int32)]) (st := []) x (ci := 34) rfl (fun b => m_X6_writes hl (some b) (41 : Int32)) q3297 q3299 (z_selP x (ci := 34) rfl (by decide) (zNi_inst x q2780) q3298 q3299) q121 q3300 n_X6_writes ⟨by decide, by decide⟩ (Nat.le_of_ble_eq_true rfl) dX6_writesFact_60) (zv_V ?_) (fun q => zx_thr x (fun z hz => (htab z hz).elim) q)
  exact z_vret (pc := 63) x hret dX6_writesFact_63
def s_X6_writesFact (E : zE) (a0 : Option Nat) (a1 : Int32) : zM := zC (s_X6_predicate E a1) zThr (zKI (fun v1 => zC (zRv a0 [(34, fun b => s_X6_writes E (some b) ((97 : Int32) + v1))]) zThr (zKV (zC (zRv a0 [(34, fun b => s_X6_writes E (some b) (40 : Int32))]) zThr (zKV (zC (s_X6_isPair E v1) zThr (zKI (fun v20 => if v20 = 0 then (s_X6_writesFact_46 E a0 a1) else (zDiv a1 (10 : Int32) (fun v32 => zRem v32 (10 : Int32) (fun v35 => zC (zRv a0 [(34, fun b => s_X6_writes E (some b) ((48 : Int32) + v35))]) zThr (zKV (zC (zRv a0 [(34, fun b => s_X6_writes E (some b) (44 : Int32))]) zThr (zKV (s_X6_writesFact_46 E a0 a1)))))))))))))))
theorem m_X6_writesFact {l : Launch} {E : zE} {D : va_G} {tA : Nat → ClassId} (hl : l.stackTraces = false) (a0 : Option Nat) (a1 : Int32) : zMet l E D tA yX6_writesFact (ws_ yX6_writesFact cX6_writesFact 3 (Option.none : Option Jvm.ClassFile.FieldType)) 10 (s_X6_writesFact E a0 a1) [zP a0, zI a1] := by
  refine z_met hl (by decide +kernel) (by rw [zSl_len]; exact (Nat.le_of_ble_eq_true rfl)) fun p e R s m args below meth c k0 x hret hnm htab => ?_
  refine z_lv [(0, zP a0), (1, zI a1)] rfl ?_
  unfold s_X6_writesFact
  refine z_iload_n (pc := 0) x 1 dX6_writesFact_0 rfl rfl ?_
  refine z_call (pc := 1) (z_canS (pc := 1) (As := [zI a1]) (st := []) x (m_X6_predicate hl a1) q3122 q3123 q121 q3124 n_X6_predicate ⟨by decide, by decide⟩ (Nat.le_of_ble_eq_true rfl) dX6_writesFact_1) (zv_I fun v1 => ?_) (fun q => zx_thr x (fun z hz => (htab z hz).elim) q)
  refine z_istore_n (pc := 4) (lv' := [(2, zI v1), (0, zP a0), (1, zI a1)]) x dX6_writesFact_4 rfl (Nat.le_of_ble_eq_true rfl) rfl ?_
  refine z_aload_n (pc := 5) x 1 dX6_writesFact_5 rfl rfl ?_
  refine z_bipush (pc := 6) x (v := (97 : Int32)) dX6_writesFact_6 rfl ?_
  refine z_iload_n (pc := 8) x 0 dX6_writesFact_8 rfl rfl ?_
  refine z_iadd (pc := 9) x dX6_writesFact_9 ?_
  refine z_call (pc := 10) (z_canV (pc := 10) (As := [zI ((97 : Int32) + v1)]) (st := []) x (ci := 34) rfl (fun b => m_X6_writes hl (some b) ((97 : Int32) + v1)) q3297 q3299 (z_selP x (ci := 34) rfl (by decide) (zNi_inst x q2780) q3298 q3299) q121 q3300 n_X6_writes ⟨by decide, by decide⟩ (Nat.le_of_ble_eq_true rfl) dX6_writesFact_10) (zv_V ?_) (fun q => zx_thr x (fun z hz => (htab z hz).elim) q)
  refine z_aload_n (pc := 13) x 1 dX6_writesFact_13 rfl rfl ?_
  refine z_bipush (pc := 14) x (v := (40 : Int32)) dX6_writesFact_14 rfl ?_
  refine z_call (pc := 16) (z_canV (pc := 16) (As := [zI (40 : Int32)]) (st := []) x (ci := 34) rfl (fun b => m_X6_writes hl (some b) (40 : Int32)) q3297 q3299 (z_selP x (ci := 34) rfl (by decide) (zNi_inst x q2780) q3298 q3299) q121 q3300 n_X6_writes ⟨by decide, by decide⟩ (Nat.le_of_ble_eq_true rfl) dX6_writesFact_16) (zv_V ?_) (fun q => zx_thr x (fun z hz => (htab z hz).elim) q)
  refine z_iload_n (pc := 19) x 0 dX6_writesFact_19 rfl rfl ?_
  refine z_call (pc := 20) (z_canS (pc := 20) (As := [zI v1]) (st := []) x (m_X6_isPair hl v1) q2908 q2909 q121 q2910 n_X6_isPair ⟨by decide, by decide⟩ (Nat.le_of_ble_eq_true rfl) dX6_writesFact_20) (zv_I fun v20 => ?_) (fun q => zx_thr x (fun z hz => (htab z hz).elim) q)
  refine z_if_eq (pc := 23) (tgt := 46) x dX6_writesFact_23 rfl (fun _ => ?_) (fun _ => ?_)
  · exact z_sub [1, 2] rfl (w_X6_writesFact_46 x hl hret hnm htab a0 a1)
  · refine z_aload_n (pc := 26) x 1 dX6_writesFact_26 rfl rfl ?_
    refine z_bipush (pc := 27) x (v := (48 : Int32)) dX6_writesFact_27 rfl ?_
    refine z_iload_n (pc := 29) x 2 dX6_writesFact_29 rfl rfl ?_
    refine z_bipush (pc := 30) x (v := (10 : Int32)) dX6_writesFact_30 rfl ?_
    refine z_idiv (pc := 32) x dX6_writesFact_32 fun v32 => ?_
    refine z_bipush (pc := 33) x (v := (10 : Int32)) dX6_writesFact_33 rfl ?_
    refine z_irem (pc := 35) x dX6_writesFact_35 fun v35 => ?_
    refine z_iadd (pc := 36) x dX6_writesFact_36 ?_
    refine z_call (pc := 37) (z_canV (pc := 37) (As := [zI ((48 : Int32) + v35)]) (st := []) x (ci := 34) rfl (fun b => m_X6_writes hl (some b) ((48 : Int32) + v35)) q3297 q3299 (z_selP x (ci := 34) rfl (by decide) (zNi_inst x q2780) q3298 q3299) q121 q3300 n_X6_writes ⟨by decide, by decide⟩ (Nat.le_of_ble_eq_true rfl) dX6_writesFact_37) (zv_V ?_) (fun q => zx_thr x (fun z hz => (htab z hz).elim) q)
    refine z_aload_n (pc := 40) x 1 dX6_writesFact_40 rfl rfl ?_
    refine z_bipush (pc := 41) x (v := (44 : Int32)) dX6_writesFact_41 rfl ?_
    refine z_call (pc := 43) (z_canV (pc := 43) (As := [zI (44 : Int32)]) (st := []) x (ci := 34) rfl (fun b => m_X6_writes hl (some b) (44 : Int32)) q3297 q3299 (z_selP x (ci := 34) rfl (by decide) (zNi_inst x q2780) q3298 q3299) q121 q3300 n_X6_writes ⟨by decide, by decide⟩ (Nat.le_of_ble_eq_true rfl) dX6_writesFact_43) (zv_V ?_) (fun q => zx_thr x (fun z hz => (htab z hz).elim) q)
    exact z_sub [1, 2] rfl (w_X6_writesFact_46 x hl hret hnm htab a0 a1)
/-! X6_writesAll -/
def s_X6_writesAll_2 (E : zE) : Nat → Option Nat → Option Nat → Int32 → zM
  | 0, _, _, _ => zFail
  | n + 1, a0, a1, a2 => zC (zRv a1 [(15, fun b => s_J6_length E (some b))]) zThr (zKI (fun v4 => if v4 ≤ a2 then (zRet none) else (zC (zRv a1 [(15, fun b => s_J6_charAt E (some b) a2)]) zThr (zKI (fun v13 => zC (zRv a0 [(34, fun b => s_X6_writes E (some b) v13)]) zThr (zKV ((s_X6_writesAll_2 E n) a0 a1 (a2 + (1 : Int32)))))))))
theorem w_X6_writesAll_2 (x : zCx p l R s m args meth c E D tA cX6_writesAll 3 yX6_writesAll.cls 14) (hl : l.stackTraces = false) (hret : meth.sig.returnType = (Option.none : Option Jvm.ClassFile.FieldType)) (hnm : meth.name = yX6_writesAll.name) (htab : ∀ z ∈ c.exceptionTable.toList, False) : ∀ (n : Nat) (a0 : Option Nat) (a1 : Option Nat) (a2 : Int32), zW p l e R s m args below meth c E D tA 3 k0 (s_X6_writesAll_2 E n a0 a1 a2) [(0, zP a0), (1, zP a1), (2, zI a2)] 2 [] := by
  intro n
  induction n with
  | zero => intro a0 a1 a2; exact z_fail
  | succ n h2 =>
    intro a0 a1 a2
    rw [s_X6_writesAll_2]
    refine z_iload_n (pc := 2) x 2 dX6_writesAll_2 rfl rfl ?_
    refine z_aload_n (pc := 3) x 1 dX6_writesAll_3 rfl rfl ?_
    refine z_call (pc := 4) (z_canV (pc := 4) (As := []) (st := [zI a2]) x (ci := 15) rfl (fun b => m_J6_length hl (some b)) q3220 q1283 (x.2.2.2.2.1 _ q1284) q119 q1285 n_J6_length ⟨by decide, by decide⟩ (Nat.le_of_ble_eq_true rfl) dX6_writesAll_4) (zv_I fun v4 => ?_) (fun q => zx_thr x (fun z hz => (htab z hz).elim) q)
    refine z_icmp_ge (pc := 7) (tgt := 25) x dX6_writesAll_7 rfl (fun _ => ?_) (fun _ => ?_)
    · exact z_vret (pc := 25) x hret dX6_writesAll_25
    · refine z_aload_n (pc := 10) x 0 dX6_writesAll_10 rfl rfl ?_
      refine z_aload_n (pc := 11) x 1 dX6_writesAll_11 rfl rfl ?_
      refine z_iload_n (pc := 12) x 2 dX6_writesAll_12 rfl rfl ?_
      refine z_call (pc := 13) (z_canV (pc := 13) (As := [zI a2]) (st := [zP a0]) x (ci := 15) rfl (fun b => m_J6_charAt hl (some b) a2) q3221 q2247 (x.2.2.2.2.1 _ q2248) q119 q2249 n_J6_charAt ⟨by decide, by decide⟩ (Nat.le_of_ble_eq_true rfl) dX6_writesAll_13) (zv_I fun v13 => ?_) (fun q => zx_thr x (fun z hz => (htab z hz).elim) q)
      refine z_call (pc := 16) (z_canV (pc := 16) (As := [zI v13]) (st := []) x (ci := 34) rfl (fun b => m_X6_writes hl (some b) v13) q3297 q3299 (z_selP x (ci := 34) rfl (by decide) (zNi_inst x q2780) q3298 q3299) q121 q3300 n_X6_writes ⟨by decide, by decide⟩ (Nat.le_of_ble_eq_true rfl) dX6_writesAll_16) (zv_V ?_) (fun q => zx_thr x (fun z hz => (htab z hz).elim) q)
      refine z_iinc (pc := 19) (lv' := [(2, zI (a2 + (1 : Int32))), (0, zP a0), (1, zP a1)]) x (v2 := (a2 + (1 : Int32))) 2 dX6_writesAll_19 rfl rfl (Nat.le_of_ble_eq_true rfl) rfl ?_
      refine z_goto (pc := 22) (tgt := 2) x dX6_writesAll_22 rfl ?_
      exact z_sub [1, 2, 0] rfl (h2 a0 a1 (a2 + (1 : Int32)))
def s_X6_writesAll (E : zE) (a0 : Option Nat) (a1 : Option Nat) : zM := s_X6_writesAll_2 E zN a0 a1 (0 : Int32)
theorem m_X6_writesAll {l : Launch} {E : zE} {D : va_G} {tA : Nat → ClassId} (hl : l.stackTraces = false) (a0 : Option Nat) (a1 : Option Nat) : zMet l E D tA yX6_writesAll (ws_ yX6_writesAll cX6_writesAll 3 (Option.none : Option Jvm.ClassFile.FieldType)) 14 (s_X6_writesAll E a0 a1) [zP a0, zP a1] := by
  refine z_met hl (by decide +kernel) (by rw [zSl_len]; exact (Nat.le_of_ble_eq_true rfl)) fun p e R s m args below meth c k0 x hret hnm htab => ?_
  refine z_lv [(0, zP a0), (1, zP a1)] rfl ?_
  unfold s_X6_writesAll
  refine z_iconst (pc := 0) x (v := (0 : Int32)) dX6_writesAll_0 rfl ?_
  refine z_istore_n (pc := 1) (lv' := [(2, zI (0 : Int32)), (0, zP a0), (1, zP a1)]) x dX6_writesAll_1 rfl (Nat.le_of_ble_eq_true rfl) rfl ?_
  exact z_sub [1, 2, 0] rfl (w_X6_writesAll_2 x hl hret hnm htab zN a0 a1 (0 : Int32))
/-! X6_writesPremises -/
def s_X6_writesPremises_72 (E : zE) (k20 : Option Nat → Int32 → Int32 → Int32 → zM) (a0 : Option Nat) (a2 : Int32) (a3 : Int32) (a4 : Int32) : zM := k20 a0 a2 a3 (a4 + (1 : Int32))
theorem w_X6_writesPremises_72 (x : zCx p l R s m args meth c E D tA cX6_writesPremises 5 yX6_writesPremises.cls 15) (hl : l.stackTraces = false) (hret : meth.sig.returnType = (Option.none : Option Jvm.ClassFile.FieldType)) (hnm : meth.name = yX6_writesPremises.name) (htab : ∀ z ∈ c.exceptionTable.toList, False) {k20 : Option Nat → Int32 → Int32 → Int32 → zM} (h20 : ∀ (a0 : Option Nat) (a2 : Int32) (a3 : Int32) (a4 : Int32) , zW p l e R s m args below meth c E D tA 5 k0 (k20 a0 a2 a3 a4) [(0, zP a0), (2, zI a2), (3, zI a3), (4, zI a4)] 20 []) (a0 : Option Nat) (a2 : Int32) (a3 : Int32) (a4 : Int32) : zW p l e R s m args below meth c E D tA 5 k0 (s_X6_writesPremises_72 E k20 a0 a2 a3 a4) [(0, zP a0), (2, zI a2), (3, zI a3), (4, zI a4)] 72 [] := by
  unfold s_X6_writesPremises_72
  refine z_iinc (pc := 72) (lv' := [(4, zI (a4 + (1 : Int32))), (0, zP a0), (2, zI a2), (3, zI a3)]) x (v2 := (a4 + (1 : Int32))) 3 dX6_writesPremises_72 rfl rfl (Nat.le_of_ble_eq_true rfl) rfl ?_
  refine z_goto (pc := 75) (tgt := 20) x dX6_writesPremises_75 rfl ?_
  exact z_sub [1, 2, 3, 0] rfl (h20 a0 a2 a3 (a4 + (1 : Int32)))
def s_X6_writesPremises_56 (E : zE) (k20 : Option Nat → Int32 → Int32 → Int32 → zM) (a0 : Option Nat) (a2 : Int32) (a4 : Int32) (b0 : Option Nat) (b1 : Option Nat) : zM := zC (zRv b0 [(34, fun b => s_X6_writesAll E (some b) b1)]) zThr (zKV (zC (zRv a0 [(34, fun b => s_X6_factOfLiteral E (some b) a2 a4)]) zThr (zKI (fun v64 => zC (zRv a0 [(34, fun b => s_X6_writesFact E (some b) v64)]) zThr (zKV (s_X6_writesPremises_72 E k20 a0 a2 (0 : Int32) a4))))))
theorem w_X6_writesPremises_56 (x : zCx p l R s m args meth c E D tA cX6_writesPremises 5 yX6_writesPremises.cls 15) (hl : l.stackTraces = false) (hret : meth.sig.returnType = (Option.none : Option Jvm.ClassFile.FieldType)) (hnm : meth.name = yX6_writesPremises.name) (htab : ∀ z ∈ c.exceptionTable.toList, False) {k20 : Option Nat → Int32 → Int32 → Int32 → zM} (h20 : ∀ (a0 : Option Nat) (a2 : Int32) (a3 : Int32) (a4 : Int32) , zW p l e R s m args below meth c E D tA 5 k0 (k20 a0 a2 a3 a4) [(0, zP a0), (2, zI a2), (3, zI a3), (4, zI a4)] 20 []) (a0 : Option Nat) (a2 : Int32) (a4 : Int32) (b0 : Option Nat) (b1 : Option Nat) : zW p l e R s m args below meth c E D tA 5 k0 (s_X6_writesPremises_56 E k20 a0 a2 a4 b0 b1) [(0, zP a0), (2, zI a2), (4, zI a4)] 56 [zP b1, zP b0] := by
  unfold s_X6_writesPremises_56
  refine z_call (pc := 56) (z_canV (pc := 56) (As := [zP b1]) (st := []) x (ci := 34) rfl (fun b => m_X6_writesAll hl (some b) b1) q3310 q3312 (z_selP x (ci := 34) rfl (by decide) (zNi_inst x q2780) q3311 q3312) q121 q3313 n_X6_writesAll ⟨by decide, by decide⟩ (Nat.le_of_ble_eq_true rfl) dX6_writesPremises_56) (zv_V ?_) (fun q => zx_thr x (fun z hz => (htab z hz).elim) q)
  refine z_aload_n (pc := 59) x 0 dX6_writesPremises_59 rfl rfl ?_
  refine z_aload_n (pc := 60) x 0 dX6_writesPremises_60 rfl rfl ?_
  refine z_iload_n (pc := 61) x 1 dX6_writesPremises_61 rfl rfl ?_
  refine z_iload (pc := 62) x 2 dX6_writesPremises_62 rfl ?_
  refine z_call (pc := 64) (z_canV (pc := 64) (As := [zI a2, zI a4]) (st := [zP a0]) x (ci := 34) rfl (fun b => m_X6_factOfLiteral hl (some b) a2 a4) q2975 q2977 (z_selP x (ci := 34) rfl (by decide) (zNi_inst x q2780) q2976 q2977) q121 q2978 n_X6_factOfLiteral ⟨by decide, by decide⟩ (Nat.le_of_ble_eq_true rfl) dX6_writesPremises_64) (zv_I fun v64 => ?_) (fun q => zx_thr x (fun z hz => (htab z hz).elim) q)
  refine z_call (pc := 67) (z_canV (pc := 67) (As := [zI v64]) (st := []) x (ci := 34) rfl (fun b => m_X6_writesFact hl (some b) v64) q3305 q3307 (z_selP x (ci := 34) rfl (by decide) (zNi_inst x q2780) q3306 q3307) q121 q3308 n_X6_writesFact ⟨by decide, by decide⟩ (Nat.le_of_ble_eq_true rfl) dX6_writesPremises_67) (zv_V ?_) (fun q => zx_thr x (fun z hz => (htab z hz).elim) q)
  refine z_iconst (pc := 70) x (v := (0 : Int32)) dX6_writesPremises_70 rfl ?_
  refine z_istore_n (pc := 71) (lv' := [(3, zI (0 : Int32)), (0, zP a0), (2, zI a2), (4, zI a4)]) x dX6_writesPremises_71 rfl (Nat.le_of_ble_eq_true rfl) rfl ?_
  exact z_sub [1, 2, 0, 3] rfl (w_X6_writesPremises_72 x hl hret hnm htab h20 a0 a2 (0 : Int32) a4)
def s_X6_writesPremises_20 (E : zE) : Nat → Option Nat → Int32 → Int32 → Int32 → zM
  | 0, _, _, _, _ => zFail
  | n + 1, a0, a2, a3, a4 => zC (zRv a0 [(34, fun b => s_X6_of E (some b) a2 (3 : Int32))]) zThr (zKI (fun v25 => if v25 ≤ a4 then (zRet none) else (zC (zRv a0 [(34, fun b => s_X6_literal E (some b) a2 a4 (0 : Int32))]) zThr (zKI (fun v36 => if v36 = 0 then (if a3 = 0 then (s_X6_writesPremises_56 E (s_X6_writesPremises_20 E n) a0 a2 a4 a0 (some (E 56))) else (s_X6_writesPremises_56 E (s_X6_writesPremises_20 E n) a0 a2 a4 a0 (some (E 55)))) else (s_X6_writesPremises_72 E (s_X6_writesPremises_20 E n) a0 a2 a3 a4))))))
theorem w_X6_writesPremises_20 (x : zCx p l R s m args meth c E D tA cX6_writesPremises 5 yX6_writesPremises.cls 15) (hl : l.stackTraces = false) (hret : meth.sig.returnType = (Option.none : Option Jvm.ClassFile.FieldType)) (hnm : meth.name = yX6_writesPremises.name) (htab : ∀ z ∈ c.exceptionTable.toList, False) : ∀ (n : Nat) (a0 : Option Nat) (a2 : Int32) (a3 : Int32) (a4 : Int32), zW p l e R s m args below meth c E D tA 5 k0 (s_X6_writesPremises_20 E n a0 a2 a3 a4) [(0, zP a0), (2, zI a2), (3, zI a3), (4, zI a4)] 20 [] := by
  intro n
  induction n with
  | zero => intro a0 a2 a3 a4; exact z_fail
  | succ n h20 =>
    intro a0 a2 a3 a4
    rw [s_X6_writesPremises_20]
    refine z_iload (pc := 20) x 3 dX6_writesPremises_20 rfl ?_
    refine z_aload_n (pc := 22) x 0 dX6_writesPremises_22 rfl rfl ?_
    refine z_iload_n (pc := 23) x 1 dX6_writesPremises_23 rfl rfl ?_
    refine z_iconst (pc := 24) x (v := (3 : Int32)) dX6_writesPremises_24 rfl ?_
    refine z_call (pc := 25) (z_canV (pc := 25) (As := [zI a2, zI (3 : Int32)]) (st := [zI a4]) x (ci := 34) rfl (fun b => m_X6_of hl (some b) a2 (3 : Int32)) q2939 q2941 (z_selP x (ci := 34) rfl (by decide) (zNi_inst x q2780) q2940 q2941) q121 q2942 n_X6_of ⟨by decide, by decide⟩ (Nat.le_of_ble_eq_true rfl) dX6_writesPremises_25) (zv_I fun v25 => ?_) (fun q => zx_thr x (fun z hz => (htab z hz).elim) q)
    refine z_icmp_ge (pc := 28) (tgt := 78) x dX6_writesPremises_28 rfl (fun _ => ?_) (fun _ => ?_)
    · exact z_vret (pc := 78) x hret dX6_writesPremises_78
    · refine z_aload_n (pc := 31) x 0 dX6_writesPremises_31 rfl rfl ?_
      refine z_iload_n (pc := 32) x 1 dX6_writesPremises_32 rfl rfl ?_
      refine z_iload (pc := 33) x 3 dX6_writesPremises_33 rfl ?_
      refine z_iconst (pc := 35) x (v := (0 : Int32)) dX6_writesPremises_35 rfl ?_
      refine z_call (pc := 36) (z_canV (pc := 36) (As := [zI a2, zI a4, zI (0 : Int32)]) (st := []) x (ci := 34) rfl (fun b => m_X6_literal hl (some b) a2 a4 (0 : Int32)) q2943 q2945 (z_selP x (ci := 34) rfl (by decide) (zNi_inst x q2780) q2944 q2945) q121 q2946 n_X6_literal ⟨by decide, by decide⟩ (Nat.le_of_ble_eq_true rfl) dX6_writesPremises_36) (zv_I fun v36 => ?_) (fun q => zx_thr x (fun z hz => (htab z hz).elim) q)
      refine z_if_ne (pc := 39) (tgt := 72) x dX6_writesPremises_39 rfl (fun _ => ?_) (fun _ => ?_)
      · refine z_aload_n (pc := 42) x 0 dX6_writesPremises_42 rfl rfl ?_
        refine z_iload_n (pc := 43) x 2 dX6_writesPremises_43 rfl rfl ?_
        refine z_if_eq (pc := 44) (tgt := 53) x dX6_writesPremises_44 rfl (fun _ => ?_) (fun _ => ?_)
        · refine z_ldcwS (pc := 53) x (k := 56) (List.mem_of_getElem? (i := 40) rfl) dX6_writesPremises_53 ?_
          exact z_sub [0, 1, 3] rfl (w_X6_writesPremises_56 x hl hret hnm htab h20 a0 a2 a4 a0 (some (E 56)))
        · refine z_ldcwS (pc := 47) x (k := 55) (List.mem_of_getElem? (i := 39) rfl) dX6_writesPremises_47 ?_
          refine z_goto (pc := 50) (tgt := 56) x dX6_writesPremises_50 rfl ?_
          exact z_sub [0, 1, 3] rfl (w_X6_writesPremises_56 x hl hret hnm htab h20 a0 a2 a4 a0 (some (E 55)))
      · exact z_sub [0, 1, 2, 3] rfl (w_X6_writesPremises_72 x hl hret hnm htab h20 a0 a2 a3 a4)
def s_X6_writesPremises (E : zE) (a0 : Option Nat) (a1 : Int32) : zM := zDiv a1 (1000 : Int32) (fun v4 => zRem a1 (1000 : Int32) (fun v12 => zC (zRv a0 [(34, fun b => s_X6_isStep E (some b) v4 v12)]) zThr (zKI (fun v13 => s_X6_writesPremises_20 E zN a0 v4 v13 (0 : Int32)))))
theorem m_X6_writesPremises {l : Launch} {E : zE} {D : va_G} {tA : Nat → ClassId} (hl : l.stackTraces = false) (a0 : Option Nat) (a1 : Int32) : zMet l E D tA yX6_writesPremises (ws_ yX6_writesPremises cX6_writesPremises 5 (Option.none : Option Jvm.ClassFile.FieldType)) 15 (s_X6_writesPremises E a0 a1) [zP a0, zI a1] := by
  refine z_met hl (by decide +kernel) (by rw [zSl_len]; exact (Nat.le_of_ble_eq_true rfl)) fun p e R s m args below meth c k0 x hret hnm htab => ?_
  refine z_lv [(0, zP a0), (1, zI a1)] rfl ?_
  unfold s_X6_writesPremises
  refine z_iload_n (pc := 0) x 1 dX6_writesPremises_0 rfl rfl ?_
  refine z_sipush (pc := 1) x (v := (1000 : Int32)) dX6_writesPremises_1 rfl ?_
  refine z_idiv (pc := 4) x dX6_writesPremises_4 fun v4 => ?_
  refine z_istore_n (pc := 5) (lv' := [(2, zI v4), (0, zP a0), (1, zI a1)]) x dX6_writesPremises_5 rfl (Nat.le_of_ble_eq_true rfl) rfl ?_
  refine z_aload_n (pc := 6) x 1 dX6_writesPremises_6 rfl rfl ?_
  refine z_iload_n (pc := 7) x 0 dX6_writesPremises_7 rfl rfl ?_
  refine z_iload_n (pc := 8) x 2 dX6_writesPremises_8 rfl rfl ?_
  refine z_sipush (pc := 9) x (v := (1000 : Int32)) dX6_writesPremises_9 rfl ?_
  refine z_irem (pc := 12) x dX6_writesPremises_12 fun v12 => ?_
  refine z_call (pc := 13) (z_canV (pc := 13) (As := [zI v4, zI v12]) (st := []) x (ci := 34) rfl (fun b => m_X6_isStep hl (some b) v4 v12) q2951 q2953 (z_selP x (ci := 34) rfl (by decide) (zNi_inst x q2780) q2952 q2953) q121 q2954 n_X6_isStep ⟨by decide, by decide⟩ (Nat.le_of_ble_eq_true rfl) dX6_writesPremises_13) (zv_I fun v13 => ?_) (fun q => zx_thr x (fun z hz => (htab z hz).elim) q)
  refine z_istore_n (pc := 16) (lv' := [(3, zI v13), (2, zI v4), (0, zP a0), (1, zI a1)]) x dX6_writesPremises_16 rfl (Nat.le_of_ble_eq_true rfl) rfl ?_
  refine z_iconst (pc := 17) x (v := (0 : Int32)) dX6_writesPremises_17 rfl ?_
  refine z_istore (pc := 18) (lv' := [(4, zI (0 : Int32)), (3, zI v13), (2, zI v4), (0, zP a0), (1, zI a1)]) x dX6_writesPremises_18 (Nat.le_of_ble_eq_true rfl) rfl ?_
  exact z_sub [3, 2, 1, 0] rfl (w_X6_writesPremises_20 x hl hret hnm htab zN a0 v4 v13 (0 : Int32))
/-! X6_writeStep -/
def s_X6_writeStep (E : zE) (a0 : Option Nat) (a1 : Int32) (a2 : Int32) (a3 : Int32) : zM := zC (zRv a0 [(34, fun b => s_X6_isNotTrue E (some b) a1 a2 a3)]) zThr (zKI (fun v4 => if v4 = 0 then (zC (s_X6_factOf E a1 a2 a3) zThr (zKI (fun v15 => zSet E a0 34 27 (zVal (zI (0 : Int32))) (zC (zRv a0 [(34, fun b => s_X6_writesFact E (some b) v15)]) zThr (zKV (zGetR a0 34 5 (fun v32 => zGaI 0 v32 v15 (fun v37 => if 0 ≤ v37 then (zC (zRv a0 [(34, fun b => s_X6_writesAll E (some b) (some (E 54)))]) zThr (zKV (zGetR a0 34 5 (fun v64 => zGaI 0 v64 v15 (fun v69 => zDiv v69 (1000 : Int32) (fun v73 => zC (zRv a0 [(34, fun b => s_X6_writes E (some b) ((48 : Int32) + v73))]) zThr (zKV (zGetR a0 34 5 (fun v80 => zGaI 0 v80 v15 (fun v85 => zC (zRv a0 [(34, fun b => s_X6_writesPremises E (some b) v85)]) zThr (zKV (zGetI a0 34 27 (fun v90 => zRet (some (.int v90))))))))))))))) else (zC (zRv a0 [(34, fun b => s_X6_writesAll E (some b) (some (E 53)))]) zThr (zKV (zGetI a0 34 27 (fun v49 => zRet (some (.int v49)))))))))))))) else (zRet (some (.int (0 : Int32))))))
theorem m_X6_writeStep {l : Launch} {E : zE} {D : va_G} {tA : Nat → ClassId} (hl : l.stackTraces = false) (a0 : Option Nat) (a1 : Int32) (a2 : Int32) (a3 : Int32) : zMet l E D tA yX6_writeStep (ws_ yX6_writeStep cX6_writeStep 5 (Option.some Jvm.ClassFile.FieldType.int)) 19 (s_X6_writeStep E a0 a1 a2 a3) [zP a0, zI a1, zI a2, zI a3] := by
  refine z_met hl (by decide +kernel) (by rw [zSl_len]; exact (Nat.le_of_ble_eq_true rfl)) fun p e R s m args below meth c k0 x hret hnm htab => ?_
  refine z_lv [(0, zP a0), (1, zI a1), (2, zI a2), (3, zI a3)] rfl ?_
  unfold s_X6_writeStep
  refine z_aload_n (pc := 0) x 0 dX6_writeStep_0 rfl rfl ?_
  refine z_iload_n (pc := 1) x 1 dX6_writeStep_1 rfl rfl ?_
  refine z_iload_n (pc := 2) x 2 dX6_writeStep_2 rfl rfl ?_
  refine z_iload_n (pc := 3) x 3 dX6_writeStep_3 rfl rfl ?_
  refine z_call (pc := 4) (z_canV (pc := 4) (As := [zI a1, zI a2, zI a3]) (st := []) x (ci := 34) rfl (fun b => m_X6_isNotTrue hl (some b) a1 a2 a3) q3084 q3086 (z_selP x (ci := 34) rfl (by decide) (zNi_inst x q2780) q3085 q3086) q121 q3087 n_X6_isNotTrue ⟨by decide, by decide⟩ (Nat.le_of_ble_eq_true rfl) dX6_writeStep_4) (zv_I fun v4 => ?_) (fun q => zx_thr x (fun z hz => (htab z hz).elim) q)
  refine z_if_eq (pc := 7) (tgt := 12) x dX6_writeStep_7 rfl (fun _ => ?_) (fun _ => ?_)
  · refine z_iload_n (pc := 12) x 1 dX6_writeStep_12 rfl rfl ?_
    refine z_iload_n (pc := 13) x 2 dX6_writeStep_13 rfl rfl ?_
    refine z_iload_n (pc := 14) x 3 dX6_writeStep_14 rfl rfl ?_
    refine z_call (pc := 15) (z_canS (pc := 15) (As := [zI a1, zI a2, zI a3]) (st := []) x (m_X6_factOf hl a1 a2 a3) q2902 q2903 q121 q2904 n_X6_factOf ⟨by decide, by decide⟩ (Nat.le_of_ble_eq_true rfl) dX6_writeStep_15) (zv_I fun v15 => ?_) (fun q => zx_thr x (fun z hz => (htab z hz).elim) q)
    refine z_istore (pc := 18) (lv' := [(4, zI v15), (0, zP a0), (1, zI a1), (2, zI a2), (3, zI a3)]) x dX6_writeStep_18 (Nat.le_of_ble_eq_true rfl) rfl ?_
    refine z_aload_n (pc := 20) x 1 dX6_writeStep_20 rfl rfl ?_
    refine z_iconst (pc := 21) x (v := (0 : Int32)) dX6_writeStep_21 rfl ?_
    refine z_set (pc := 22) (v := zI (0 : Int32)) x in_X6 tyX6 tyX6_ok nmX6 (ci := 34) rfl (k := 27) (by decide) q2812 (fun _ h => h) rfl rfl rfl dX6_writeStep_22 ?_
    refine z_aload_n (pc := 25) x 1 dX6_writeStep_25 rfl rfl ?_
    refine z_iload (pc := 26) x 0 dX6_writeStep_26 rfl ?_
    refine z_call (pc := 28) (z_canV (pc := 28) (As := [zI v15]) (st := []) x (ci := 34) rfl (fun b => m_X6_writesFact hl (some b) v15) q3305 q3307 (z_selP x (ci := 34) rfl (by decide) (zNi_inst x q2780) q3306 q3307) q121 q3308 n_X6_writesFact ⟨by decide, by decide⟩ (Nat.le_of_ble_eq_true rfl) dX6_writeStep_28) (zv_V ?_) (fun q => zx_thr x (fun z hz => (htab z hz).elim) q)
    refine z_aload_n (pc := 31) x 1 dX6_writeStep_31 rfl rfl ?_
    refine z_get (pc := 32) (fun _ _ h => zAsR_eq h) x in_X6 (ci := 34) rfl (k := 5) (by decide) q2790 (fun _ h => h) dX6_writeStep_32 fun v32 => ?_
    refine z_iload (pc := 35) x 0 dX6_writeStep_35 rfl ?_
    refine z_iald (pc := 37) x (t := 0) rfl dX6_writeStep_37 fun v37 => ?_
    refine z_if_ge (pc := 38) (tgt := 53) x dX6_writeStep_38 rfl (fun _ => ?_) (fun _ => ?_)
    · refine z_aload_n (pc := 53) x 1 dX6_writeStep_53 rfl rfl ?_
      refine z_ldcwS (pc := 54) x (k := 54) (List.mem_of_getElem? (i := 38) rfl) dX6_writeStep_54 ?_
      refine z_call (pc := 57) (z_canV (pc := 57) (As := [zP (some (E 54))]) (st := []) x (ci := 34) rfl (fun b => m_X6_writesAll hl (some b) (some (E 54))) q3310 q3312 (z_selP x (ci := 34) rfl (by decide) (zNi_inst x q2780) q3311 q3312) q121 q3313 n_X6_writesAll ⟨by decide, by decide⟩ (Nat.le_of_ble_eq_true rfl) dX6_writeStep_57) (zv_V ?_) (fun q => zx_thr x (fun z hz => (htab z hz).elim) q)
      refine z_aload_n (pc := 60) x 1 dX6_writeStep_60 rfl rfl ?_
      refine z_bipush (pc := 61) x (v := (48 : Int32)) dX6_writeStep_61 rfl ?_
      refine z_aload_n (pc := 63) x 1 dX6_writeStep_63 rfl rfl ?_
      refine z_get (pc := 64) (fun _ _ h => zAsR_eq h) x in_X6 (ci := 34) rfl (k := 5) (by decide) q2790 (fun _ h => h) dX6_writeStep_64 fun v64 => ?_
      refine z_iload (pc := 67) x 0 dX6_writeStep_67 rfl ?_
      refine z_iald (pc := 69) x (t := 0) rfl dX6_writeStep_69 fun v69 => ?_
      refine z_sipush (pc := 70) x (v := (1000 : Int32)) dX6_writeStep_70 rfl ?_
      refine z_idiv (pc := 73) x dX6_writeStep_73 fun v73 => ?_
      refine z_iadd (pc := 74) x dX6_writeStep_74 ?_
      refine z_call (pc := 75) (z_canV (pc := 75) (As := [zI ((48 : Int32) + v73)]) (st := []) x (ci := 34) rfl (fun b => m_X6_writes hl (some b) ((48 : Int32) + v73)) q3297 q3299 (z_selP x (ci := 34) rfl (by decide) (zNi_inst x q2780) q3298 q3299) q121 q3300 n_X6_writes ⟨by decide, by decide⟩ (Nat.le_of_ble_eq_true rfl) dX6_writeStep_75) (zv_V ?_) (fun q => zx_thr x (fun z hz => (htab z hz).elim) q)
      refine z_aload_n (pc := 78) x 1 dX6_writeStep_78 rfl rfl ?_
      refine z_aload_n (pc := 79) x 1 dX6_writeStep_79 rfl rfl ?_
      refine z_get (pc := 80) (fun _ _ h => zAsR_eq h) x in_X6 (ci := 34) rfl (k := 5) (by decide) q2790 (fun _ h => h) dX6_writeStep_80 fun v80 => ?_
      refine z_iload (pc := 83) x 0 dX6_writeStep_83 rfl ?_
      refine z_iald (pc := 85) x (t := 0) rfl dX6_writeStep_85 fun v85 => ?_
      refine z_call (pc := 86) (z_canV (pc := 86) (As := [zI v85]) (st := []) x (ci := 34) rfl (fun b => m_X6_writesPremises hl (some b) v85) q3315 q3317 (z_selP x (ci := 34) rfl (by decide) (zNi_inst x q2780) q3316 q3317) q121 q3318 n_X6_writesPremises ⟨by decide, by decide⟩ (Nat.le_of_ble_eq_true rfl) dX6_writeStep_86) (zv_V ?_) (fun q => zx_thr x (fun z hz => (htab z hz).elim) q)
      refine z_aload_n (pc := 89) x 1 dX6_writeStep_89 rfl rfl ?_
      refine z_get (pc := 90) (fun _ _ h => zAsI_eq h) x in_X6 (ci := 34) rfl (k := 27) (by decide) q2812 (fun _ h => h) dX6_writeStep_90 fun v90 => ?_
      exact z_iret (pc := 93) x hret dX6_writeStep_93
    · refine z_aload_n (pc := 41) x 1 dX6_writeStep_41 rfl rfl ?_
      refine z_ldcwS (pc := 42) x (k := 53) (List.mem_of_getElem? (i := 37) rfl) dX6_writeStep_42 ?_
      refine z_call (pc := 45) (z_canV (pc := 45) (As := [zP (some (E 53))]) (st := []) x (ci := 34) rfl (fun b => m_X6_writesAll hl (some b) (some (E 53))) q3310 q3312 (z_selP x (ci := 34) rfl (by decide) (zNi_inst x q2780) q3311 q3312) q121 q3313 n_X6_writesAll ⟨by decide, by decide⟩ (Nat.le_of_ble_eq_true rfl) dX6_writeStep_45) (zv_V ?_) (fun q => zx_thr x (fun z hz => (htab z hz).elim) q)
      refine z_aload_n (pc := 48) x 1 dX6_writeStep_48 rfl rfl ?_
      refine z_get (pc := 49) (fun _ _ h => zAsI_eq h) x in_X6 (ci := 34) rfl (k := 27) (by decide) q2812 (fun _ h => h) dX6_writeStep_49 fun v49 => ?_
      exact z_iret (pc := 52) x hret dX6_writeStep_52
  · refine z_iconst (pc := 10) x (v := (0 : Int32)) dX6_writeStep_10 rfl ?_
    exact z_iret (pc := 11) x hret dX6_writeStep_11
/-! X6_writeGiven -/
def s_X6_writeGiven_49 (E : zE) (k12 : Option Nat → Int32 → zM) (a0 : Option Nat) (a1 : Int32) : zM := k12 a0 (a1 + (1 : Int32))
theorem w_X6_writeGiven_49 (x : zCx p l R s m args meth c E D tA cX6_writeGiven 2 yX6_writeGiven.cls 11) (hl : l.stackTraces = false) (hret : meth.sig.returnType = (Option.some Jvm.ClassFile.FieldType.int)) (hnm : meth.name = yX6_writeGiven.name) (htab : ∀ z ∈ c.exceptionTable.toList, False) {k12 : Option Nat → Int32 → zM} (h12 : ∀ (a0 : Option Nat) (a1 : Int32) , zW p l e R s m args below meth c E D tA 2 k0 (k12 a0 a1) [(0, zP a0), (1, zI a1)] 12 []) (a0 : Option Nat) (a1 : Int32) : zW p l e R s m args below meth c E D tA 2 k0 (s_X6_writeGiven_49 E k12 a0 a1) [(0, zP a0), (1, zI a1)] 49 [] := by
  unfold s_X6_writeGiven_49
  refine z_iinc (pc := 49) (lv' := [(1, zI (a1 + (1 : Int32))), (0, zP a0)]) x (v2 := (a1 + (1 : Int32))) 1 dX6_writeGiven_49 rfl rfl (Nat.le_of_ble_eq_true rfl) rfl ?_
  refine z_goto (pc := 52) (tgt := 12) x dX6_writeGiven_52 rfl ?_
  exact z_sub [1, 0] rfl (h12 a0 (a1 + (1 : Int32)))
def s_X6_writeGiven_44 (E : zE) (k12 : Option Nat → Int32 → zM) (a0 : Option Nat) (a1 : Int32) : zM := zC (zRv a0 [(34, fun b => s_X6_writesFact E (some b) a1)]) zThr (zKV (s_X6_writeGiven_49 E k12 a0 a1))
theorem w_X6_writeGiven_44 (x : zCx p l R s m args meth c E D tA cX6_writeGiven 2 yX6_writeGiven.cls 11) (hl : l.stackTraces = false) (hret : meth.sig.returnType = (Option.some Jvm.ClassFile.FieldType.int)) (hnm : meth.name = yX6_writeGiven.name) (htab : ∀ z ∈ c.exceptionTable.toList, False) {k12 : Option Nat → Int32 → zM} (h12 : ∀ (a0 : Option Nat) (a1 : Int32) , zW p l e R s m args below meth c E D tA 2 k0 (k12 a0 a1) [(0, zP a0), (1, zI a1)] 12 []) (a0 : Option Nat) (a1 : Int32) : zW p l e R s m args below meth c E D tA 2 k0 (s_X6_writeGiven_44 E k12 a0 a1) [(0, zP a0), (1, zI a1)] 44 [] := by
  unfold s_X6_writeGiven_44
  refine z_aload_n (pc := 44) x 0 dX6_writeGiven_44 rfl rfl ?_
  refine z_iload_n (pc := 45) x 1 dX6_writeGiven_45 rfl rfl ?_
  refine z_call (pc := 46) (z_canV (pc := 46) (As := [zI a1]) (st := []) x (ci := 34) rfl (fun b => m_X6_writesFact hl (some b) a1) q3305 q3307 (z_selP x (ci := 34) rfl (by decide) (zNi_inst x q2780) q3306 q3307) q121 q3308 n_X6_writesFact ⟨by decide, by decide⟩ (Nat.le_of_ble_eq_true rfl) dX6_writeGiven_46) (zv_V ?_) (fun q => zx_thr x (fun z hz => (htab z hz).elim) q)
  exact z_sub [0, 1] rfl (w_X6_writeGiven_49 x hl hret hnm htab h12 a0 a1)
def s_X6_writeGiven_12 (E : zE) : Nat → Option Nat → Int32 → zM
  | 0, _, _ => zFail
  | n + 1, a0, a1 => if (440 : Int32) ≤ a1 then (zGetI a0 34 27 (fun v56 => zRet (some (.int v56)))) else (zGetR a0 34 0 (fun v20 => zGaI 0 v20 ((4 : Int32) + a1) (fun v26 => if v26 = (1 : Int32) then (zGetI a0 34 27 (fun v32 => if v32 ≤ 0 then (s_X6_writeGiven_44 E (s_X6_writeGiven_12 E n) a0 a1) else (zC (zRv a0 [(34, fun b => s_X6_writes E (some b) (32 : Int32))]) zThr (zKV (s_X6_writeGiven_44 E (s_X6_writeGiven_12 E n) a0 a1))))) else (s_X6_writeGiven_49 E (s_X6_writeGiven_12 E n) a0 a1))))
theorem w_X6_writeGiven_12 (x : zCx p l R s m args meth c E D tA cX6_writeGiven 2 yX6_writeGiven.cls 11) (hl : l.stackTraces = false) (hret : meth.sig.returnType = (Option.some Jvm.ClassFile.FieldType.int)) (hnm : meth.name = yX6_writeGiven.name) (htab : ∀ z ∈ c.exceptionTable.toList, False) : ∀ (n : Nat) (a0 : Option Nat) (a1 : Int32), zW p l e R s m args below meth c E D tA 2 k0 (s_X6_writeGiven_12 E n a0 a1) [(0, zP a0), (1, zI a1)] 12 [] := by
  intro n
  induction n with
  | zero => intro a0 a1; exact z_fail
  | succ n h12 =>
    intro a0 a1
    rw [s_X6_writeGiven_12]
    refine z_iload_n (pc := 12) x 1 dX6_writeGiven_12 rfl rfl ?_
    refine z_sipush (pc := 13) x (v := (440 : Int32)) dX6_writeGiven_13 rfl ?_
    refine z_icmp_ge (pc := 16) (tgt := 55) x dX6_writeGiven_16 rfl (fun _ => ?_) (fun _ => ?_)
    · refine z_aload_n (pc := 55) x 0 dX6_writeGiven_55 rfl rfl ?_
      refine z_get (pc := 56) (fun _ _ h => zAsI_eq h) x in_X6 (ci := 34) rfl (k := 27) (by decide) q2812 (fun _ h => h) dX6_writeGiven_56 fun v56 => ?_
      exact z_iret (pc := 59) x hret dX6_writeGiven_59
    · refine z_aload_n (pc := 19) x 0 dX6_writeGiven_19 rfl rfl ?_
      refine z_get (pc := 20) (fun _ _ h => zAsR_eq h) x in_X6 (ci := 34) rfl (k := 0) (by decide) q2785 (fun _ h => h) dX6_writeGiven_20 fun v20 => ?_
      refine z_iconst (pc := 23) x (v := (4 : Int32)) dX6_writeGiven_23 rfl ?_
      refine z_iload_n (pc := 24) x 1 dX6_writeGiven_24 rfl rfl ?_
      refine z_iadd (pc := 25) x dX6_writeGiven_25 ?_
      refine z_iald (pc := 26) x (t := 0) rfl dX6_writeGiven_26 fun v26 => ?_
      refine z_iconst (pc := 27) x (v := (1 : Int32)) dX6_writeGiven_27 rfl ?_
      refine z_icmp_ne (pc := 28) (tgt := 49) x dX6_writeGiven_28 rfl (fun _ => ?_) (fun _ => ?_)
      · refine z_aload_n (pc := 31) x 0 dX6_writeGiven_31 rfl rfl ?_
        refine z_get (pc := 32) (fun _ _ h => zAsI_eq h) x in_X6 (ci := 34) rfl (k := 27) (by decide) q2812 (fun _ h => h) dX6_writeGiven_32 fun v32 => ?_
        refine z_if_le (pc := 35) (tgt := 44) x dX6_writeGiven_35 rfl (fun _ => ?_) (fun _ => ?_)
        · exact z_sub [0, 1] rfl (w_X6_writeGiven_44 x hl hret hnm htab h12 a0 a1)
        · refine z_aload_n (pc := 38) x 0 dX6_writeGiven_38 rfl rfl ?_
          refine z_bipush (pc := 39) x (v := (32 : Int32)) dX6_writeGiven_39 rfl ?_
          refine z_call (pc := 41) (z_canV (pc := 41) (As := [zI (32 : Int32)]) (st := []) x (ci := 34) rfl (fun b => m_X6_writes hl (some b) (32 : Int32)) q3297 q3299 (z_selP x (ci := 34) rfl (by decide) (zNi_inst x q2780) q3298 q3299) q121 q3300 n_X6_writes ⟨by decide, by decide⟩ (Nat.le_of_ble_eq_true rfl) dX6_writeGiven_41) (zv_V ?_) (fun q => zx_thr x (fun z hz => (htab z hz).elim) q)
          exact z_sub [0, 1] rfl (w_X6_writeGiven_44 x hl hret hnm htab h12 a0 a1)
      · exact z_sub [0, 1] rfl (w_X6_writeGiven_49 x hl hret hnm htab h12 a0 a1)
def s_X6_writeGiven (E : zE) (a0 : Option Nat) : zM := zSet E a0 34 13 (zVal (zI (0 : Int32))) (zSet E a0 34 27 (zVal (zI (0 : Int32))) (s_X6_writeGiven_12 E zN a0 (0 : Int32)))
theorem m_X6_writeGiven {l : Launch} {E : zE} {D : va_G} {tA : Nat → ClassId} (hl : l.stackTraces = false) (a0 : Option Nat) : zMet l E D tA yX6_writeGiven (ws_ yX6_writeGiven cX6_writeGiven 2 (Option.some Jvm.ClassFile.FieldType.int)) 11 (s_X6_writeGiven E a0) [zP a0] := by
  refine z_met hl (by decide +kernel) (by rw [zSl_len]; exact (Nat.le_of_ble_eq_true rfl)) fun p e R s m args below meth c k0 x hret hnm htab => ?_
  refine z_lv [(0, zP a0)] rfl ?_
  unfold s_X6_writeGiven
  refine z_aload_n (pc := 0) x 0 dX6_writeGiven_0 rfl rfl ?_
  refine z_iconst (pc := 1) x (v := (0 : Int32)) dX6_writeGiven_1 rfl ?_
  refine z_set (pc := 2) (v := zI (0 : Int32)) x in_X6 tyX6 tyX6_ok nmX6 (ci := 34) rfl (k := 13) (by decide) q2798 (fun _ h => h) rfl rfl rfl dX6_writeGiven_2 ?_
  refine z_aload_n (pc := 5) x 0 dX6_writeGiven_5 rfl rfl ?_
  refine z_iconst (pc := 6) x (v := (0 : Int32)) dX6_writeGiven_6 rfl ?_
  refine z_set (pc := 7) (v := zI (0 : Int32)) x in_X6 tyX6 tyX6_ok nmX6 (ci := 34) rfl (k := 27) (by decide) q2812 (fun _ h => h) rfl rfl rfl dX6_writeGiven_7 ?_
  refine z_iconst (pc := 10) x (v := (0 : Int32)) dX6_writeGiven_10 rfl ?_
  refine z_istore_n (pc := 11) (lv' := [(1, zI (0 : Int32)), (0, zP a0)]) x dX6_writeGiven_11 rfl (Nat.le_of_ble_eq_true rfl) rfl ?_
  exact z_sub [1, 0] rfl (w_X6_writeGiven_12 x hl hret hnm htab zN a0 (0 : Int32))
/-! X6_outputAt -/
def s_X6_outputAt_20 (E : zE) (a0 : Option Nat) (a1 : Int32) (b0 : Option Nat) (b1 : Int32) : zM := zC (zRv b0 [(34, fun b => s_X6_isThrown E (some b) b1 (1 : Int32))]) zThr (zKI (fun v21 => if v21 = 0 then (zGetR a0 34 26 (fun v32 => zGaI 0 v32 a1 (fun v36 => zRetN .char (((v36).toUInt32 % 65536).toInt32)))) else (zRetN .char (0 : Int32))))
theorem w_X6_outputAt_20 (x : zCx p l R s m args meth c E D tA cX6_outputAt 2 yX6_outputAt.cls 10) (hl : l.stackTraces = false) (hret : meth.sig.returnType = (Option.some Jvm.ClassFile.FieldType.char)) (hnm : meth.name = yX6_outputAt.name) (htab : ∀ z ∈ c.exceptionTable.toList, False) (a0 : Option Nat) (a1 : Int32) (b0 : Option Nat) (b1 : Int32) : zW p l e R s m args below meth c E D tA 2 k0 (s_X6_outputAt_20 E a0 a1 b0 b1) [(0, zP a0), (1, zI a1)] 20 [zI b1, zP b0] := by
  unfold s_X6_outputAt_20
  refine z_iconst (pc := 20) x (v := (1 : Int32)) dX6_outputAt_20 rfl ?_
  refine z_call (pc := 21) (z_canV (pc := 21) (As := [zI b1, zI (1 : Int32)]) (st := []) x (ci := 34) rfl (fun b => m_X6_isThrown hl (some b) b1 (1 : Int32)) q2898 q2900 (z_selP x (ci := 34) rfl (by decide) (zNi_inst x q2780) q2899 q2900) q121 q2901 n_X6_isThrown ⟨by decide, by decide⟩ (Nat.le_of_ble_eq_true rfl) dX6_outputAt_21) (zv_I fun v21 => ?_) (fun q => zx_thr x (fun z hz => (htab z hz).elim) q)
  refine z_if_eq (pc := 24) (tgt := 31) x dX6_outputAt_24 rfl (fun _ => ?_) (fun _ => ?_)
  · refine z_aload_n (pc := 31) x 0 dX6_outputAt_31 rfl rfl ?_
    refine z_get (pc := 32) (fun _ _ h => zAsR_eq h) x in_X6 (ci := 34) rfl (k := 26) (by decide) q2811 (fun _ h => h) dX6_outputAt_32 fun v32 => ?_
    refine z_iload_n (pc := 35) x 1 dX6_outputAt_35 rfl rfl ?_
    refine z_iald (pc := 36) x (t := 0) rfl dX6_outputAt_36 fun v36 => ?_
    refine z_i2c (pc := 37) x dX6_outputAt_37 ?_
    exact z_zret (pc := 38) x hret dX6_outputAt_38
  · refine z_iconst (pc := 27) x (v := (0 : Int32)) dX6_outputAt_27 rfl ?_
    refine z_goto (pc := 28) (tgt := 38) x dX6_outputAt_28 rfl ?_
    exact z_zret (pc := 38) x hret dX6_outputAt_38
def s_X6_outputAt (E : zE) (a0 : Option Nat) (a1 : Int32) : zM := zGetI a0 34 27 (fun v4 => zC (s_X6_isIn E a1 (0 : Int32) (v4 - (1 : Int32))) zThr (zKI (fun v9 => if v9 = 0 then (s_X6_outputAt_20 E a0 a1 a0 (1 : Int32)) else (s_X6_outputAt_20 E a0 a1 a0 (0 : Int32)))))
theorem m_X6_outputAt {l : Launch} {E : zE} {D : va_G} {tA : Nat → ClassId} (hl : l.stackTraces = false) (a0 : Option Nat) (a1 : Int32) : zMet l E D tA yX6_outputAt (ws_ yX6_outputAt cX6_outputAt 2 (Option.some Jvm.ClassFile.FieldType.char)) 10 (s_X6_outputAt E a0 a1) [zP a0, zI a1] := by
  refine z_met hl (by decide +kernel) (by rw [zSl_len]; exact (Nat.le_of_ble_eq_true rfl)) fun p e R s m args below meth c k0 x hret hnm htab => ?_
  refine z_lv [(0, zP a0), (1, zI a1)] rfl ?_
  unfold s_X6_outputAt
  refine z_aload_n (pc := 0) x 0 dX6_outputAt_0 rfl rfl ?_
  refine z_iload_n (pc := 1) x 1 dX6_outputAt_1 rfl rfl ?_
  refine z_iconst (pc := 2) x (v := (0 : Int32)) dX6_outputAt_2 rfl ?_
  refine z_aload_n (pc := 3) x 0 dX6_outputAt_3 rfl rfl ?_
  refine z_get (pc := 4) (fun _ _ h => zAsI_eq h) x in_X6 (ci := 34) rfl (k := 27) (by decide) q2812 (fun _ h => h) dX6_outputAt_4 fun v4 => ?_
  refine z_iconst (pc := 7) x (v := (1 : Int32)) dX6_outputAt_7 rfl ?_
  refine z_isub (pc := 8) x dX6_outputAt_8 ?_
  refine z_call (pc := 9) (z_canS (pc := 9) (As := [zI a1, zI (0 : Int32), zI (v4 - (1 : Int32))]) (st := [zP a0]) x (m_X6_isIn hl a1 (0 : Int32) (v4 - (1 : Int32))) q2895 q2896 q121 q2897 n_X6_isIn ⟨by decide, by decide⟩ (Nat.le_of_ble_eq_true rfl) dX6_outputAt_9) (zv_I fun v9 => ?_) (fun q => zx_thr x (fun z hz => (htab z hz).elim) q)
  refine z_if_ne (pc := 12) (tgt := 19) x dX6_outputAt_12 rfl (fun _ => ?_) (fun _ => ?_)
  · refine z_iconst (pc := 15) x (v := (1 : Int32)) dX6_outputAt_15 rfl ?_
    refine z_goto (pc := 16) (tgt := 20) x dX6_outputAt_16 rfl ?_
    exact z_sub [0, 1] rfl (w_X6_outputAt_20 x hl hret hnm htab a0 a1 a0 (1 : Int32))
  · refine z_iconst (pc := 19) x (v := (0 : Int32)) dX6_outputAt_19 rfl ?_
    exact z_sub [0, 1] rfl (w_X6_outputAt_20 x hl hret hnm htab a0 a1 a0 (0 : Int32))
/-! X6_undo -/
def s_X6_undo_13 (E : zE) (a0 : Option Nat) (b0 : Option Nat) (b1 : Int32) : zM := zC (zRv b0 [(34, fun b => s_X6_isThrown E (some b) b1 (1 : Int32))]) zThr (zKI (fun v14 => if v14 = 0 then (zGetI a0 34 12 (fun v24 => zSet E a0 34 12 (zVal (zI (v24 - (1 : Int32)))) (zGetR a0 34 3 (fun v33 => zGetI a0 34 12 (fun v40 => zGetR a0 34 0 (fun v45 => zC (s_X6_copies E v33 ((1128 : Int32) * v40) v45 (0 : Int32)) zThr (zKV (zSetN E .boolean a0 34 20 (0 : Int32) (zGetI a0 34 12 (fun v58 => zRet (some (.int v58)))))))))))) else (zRet (some (.int (0 : Int32))))))
theorem w_X6_undo_13 (x : zCx p l R s m args meth c E D tA cX6_undo 1 yX6_undo.cls 10) (hl : l.stackTraces = false) (hret : meth.sig.returnType = (Option.some Jvm.ClassFile.FieldType.int)) (hnm : meth.name = yX6_undo.name) (htab : ∀ z ∈ c.exceptionTable.toList, False) (a0 : Option Nat) (b0 : Option Nat) (b1 : Int32) : zW p l e R s m args below meth c E D tA 1 k0 (s_X6_undo_13 E a0 b0 b1) [(0, zP a0)] 13 [zI b1, zP b0] := by
  unfold s_X6_undo_13
  refine z_iconst (pc := 13) x (v := (1 : Int32)) dX6_undo_13 rfl ?_
  refine z_call (pc := 14) (z_canV (pc := 14) (As := [zI b1, zI (1 : Int32)]) (st := []) x (ci := 34) rfl (fun b => m_X6_isThrown hl (some b) b1 (1 : Int32)) q2898 q2900 (z_selP x (ci := 34) rfl (by decide) (zNi_inst x q2780) q2899 q2900) q121 q2901 n_X6_isThrown ⟨by decide, by decide⟩ (Nat.le_of_ble_eq_true rfl) dX6_undo_14) (zv_I fun v14 => ?_) (fun q => zx_thr x (fun z hz => (htab z hz).elim) q)
  refine z_if_eq (pc := 17) (tgt := 22) x dX6_undo_17 rfl (fun _ => ?_) (fun _ => ?_)
  · refine z_aload_n (pc := 22) x 0 dX6_undo_22 rfl rfl ?_
    refine z_dup (pc := 23) x dX6_undo_23 rfl ?_
    refine z_get (pc := 24) (fun _ _ h => zAsI_eq h) x in_X6 (ci := 34) rfl (k := 12) (by decide) q2797 (fun _ h => h) dX6_undo_24 fun v24 => ?_
    refine z_iconst (pc := 27) x (v := (1 : Int32)) dX6_undo_27 rfl ?_
    refine z_isub (pc := 28) x dX6_undo_28 ?_
    refine z_set (pc := 29) (v := zI (v24 - (1 : Int32))) x in_X6 tyX6 tyX6_ok nmX6 (ci := 34) rfl (k := 12) (by decide) q2797 (fun _ h => h) rfl rfl rfl dX6_undo_29 ?_
    refine z_aload_n (pc := 32) x 0 dX6_undo_32 rfl rfl ?_
    refine z_get (pc := 33) (fun _ _ h => zAsR_eq h) x in_X6 (ci := 34) rfl (k := 3) (by decide) q2788 (fun _ h => h) dX6_undo_33 fun v33 => ?_
    refine z_sipush (pc := 36) x (v := (1128 : Int32)) dX6_undo_36 rfl ?_
    refine z_aload_n (pc := 39) x 0 dX6_undo_39 rfl rfl ?_
    refine z_get (pc := 40) (fun _ _ h => zAsI_eq h) x in_X6 (ci := 34) rfl (k := 12) (by decide) q2797 (fun _ h => h) dX6_undo_40 fun v40 => ?_
    refine z_imul (pc := 43) x dX6_undo_43 ?_
    refine z_aload_n (pc := 44) x 0 dX6_undo_44 rfl rfl ?_
    refine z_get (pc := 45) (fun _ _ h => zAsR_eq h) x in_X6 (ci := 34) rfl (k := 0) (by decide) q2785 (fun _ h => h) dX6_undo_45 fun v45 => ?_
    refine z_iconst (pc := 48) x (v := (0 : Int32)) dX6_undo_48 rfl ?_
    refine z_call (pc := 49) (z_canS (pc := 49) (As := [zP v33, zI ((1128 : Int32) * v40), zP v45, zI (0 : Int32)]) (st := []) x (m_X6_copies hl v33 ((1128 : Int32) * v40) v45 (0 : Int32)) q2882 q2883 q121 q2884 n_X6_copies ⟨by decide, by decide⟩ (Nat.le_of_ble_eq_true rfl) dX6_undo_49) (zv_V ?_) (fun q => zx_thr x (fun z hz => (htab z hz).elim) q)
    refine z_aload_n (pc := 52) x 0 dX6_undo_52 rfl rfl ?_
    refine z_iconst (pc := 53) x (v := (0 : Int32)) dX6_undo_53 rfl ?_
    refine z_set_small fun hn hf => ?_
    refine z_set (pc := 54) (v := zI (0 : Int32)) x in_X6 tyX6 tyX6_ok nmX6 (ci := 34) rfl (k := 20) (by decide) q2805 (fun _ h => h) rfl hn hf dX6_undo_54 ?_
    refine z_aload_n (pc := 57) x 0 dX6_undo_57 rfl rfl ?_
    refine z_get (pc := 58) (fun _ _ h => zAsI_eq h) x in_X6 (ci := 34) rfl (k := 12) (by decide) q2797 (fun _ h => h) dX6_undo_58 fun v58 => ?_
    exact z_iret (pc := 61) x hret dX6_undo_61
  · refine z_iconst (pc := 20) x (v := (0 : Int32)) dX6_undo_20 rfl ?_
    exact z_iret (pc := 21) x hret dX6_undo_21
def s_X6_undo (E : zE) (a0 : Option Nat) : zM := zGetI a0 34 12 (fun v2 => if v2 = 0 then (s_X6_undo_13 E a0 a0 (1 : Int32)) else (s_X6_undo_13 E a0 a0 (0 : Int32)))
theorem m_X6_undo {l : Launch} {E : zE} {D : va_G} {tA : Nat → ClassId} (hl : l.stackTraces = false) (a0 : Option Nat) : zMet l E D tA yX6_undo (ws_ yX6_undo cX6_undo 1 (Option.some Jvm.ClassFile.FieldType.int)) 10 (s_X6_undo E a0) [zP a0] := by
  refine z_met hl (by decide +kernel) (by rw [zSl_len]; exact (Nat.le_of_ble_eq_true rfl)) fun p e R s m args below meth c k0 x hret hnm htab => ?_
  refine z_lv [(0, zP a0)] rfl ?_
  unfold s_X6_undo
  refine z_aload_n (pc := 0) x 0 dX6_undo_0 rfl rfl ?_
  refine z_aload_n (pc := 1) x 0 dX6_undo_1 rfl rfl ?_
  refine z_get (pc := 2) (fun _ _ h => zAsI_eq h) x in_X6 (ci := 34) rfl (k := 12) (by decide) q2797 (fun _ h => h) dX6_undo_2 fun v2 => ?_
  refine z_if_ne (pc := 5) (tgt := 12) x dX6_undo_5 rfl (fun _ => ?_) (fun _ => ?_)
  · refine z_iconst (pc := 8) x (v := (1 : Int32)) dX6_undo_8 rfl ?_
    refine z_goto (pc := 9) (tgt := 13) x dX6_undo_9 rfl ?_
    exact z_sub [0] rfl (w_X6_undo_13 x hl hret hnm htab a0 a0 (1 : Int32))
  · refine z_iconst (pc := 12) x (v := (0 : Int32)) dX6_undo_12 rfl ?_
    exact z_sub [0] rfl (w_X6_undo_13 x hl hret hnm htab a0 a0 (0 : Int32))
/-! X6_save -/
def s_X6_save (E : zE) (a0 : Option Nat) : zM := zSet E a0 34 13 (zVal (zI (0 : Int32))) (zGetR a0 34 0 (fun v6 => zGetR a0 34 2 (fun v11 => zC (s_X6_copies E v6 (0 : Int32) v11 (0 : Int32)) zThr (zKV (zSetN E .boolean a0 34 19 (1 : Int32) (zRet none))))))
theorem m_X6_save {l : Launch} {E : zE} {D : va_G} {tA : Nat → ClassId} (hl : l.stackTraces = false) (a0 : Option Nat) : zMet l E D tA yX6_save (ws_ yX6_save cX6_save 1 (Option.none : Option Jvm.ClassFile.FieldType)) 10 (s_X6_save E a0) [zP a0] := by
  refine z_met hl (by decide +kernel) (by rw [zSl_len]; exact (Nat.le_of_ble_eq_true rfl)) fun p e R s m args below meth c k0 x hret hnm htab => ?_
  refine z_lv [(0, zP a0)] rfl ?_
  unfold s_X6_save
  refine z_aload_n (pc := 0) x 0 dX6_save_0 rfl rfl ?_
  refine z_iconst (pc := 1) x (v := (0 : Int32)) dX6_save_1 rfl ?_
  refine z_set (pc := 2) (v := zI (0 : Int32)) x in_X6 tyX6 tyX6_ok nmX6 (ci := 34) rfl (k := 13) (by decide) q2798 (fun _ h => h) rfl rfl rfl dX6_save_2 ?_
  refine z_aload_n (pc := 5) x 0 dX6_save_5 rfl rfl ?_
  refine z_get (pc := 6) (fun _ _ h => zAsR_eq h) x in_X6 (ci := 34) rfl (k := 0) (by decide) q2785 (fun _ h => h) dX6_save_6 fun v6 => ?_
  refine z_iconst (pc := 9) x (v := (0 : Int32)) dX6_save_9 rfl ?_
  refine z_aload_n (pc := 10) x 0 dX6_save_10 rfl rfl ?_
  refine z_get (pc := 11) (fun _ _ h => zAsR_eq h) x in_X6 (ci := 34) rfl (k := 2) (by decide) q2787 (fun _ h => h) dX6_save_11 fun v11 => ?_
  refine z_iconst (pc := 14) x (v := (0 : Int32)) dX6_save_14 rfl ?_
  refine z_call (pc := 15) (z_canS (pc := 15) (As := [zP v6, zI (0 : Int32), zP v11, zI (0 : Int32)]) (st := []) x (m_X6_copies hl v6 (0 : Int32) v11 (0 : Int32)) q2882 q2883 q121 q2884 n_X6_copies ⟨by decide, by decide⟩ (Nat.le_of_ble_eq_true rfl) dX6_save_15) (zv_V ?_) (fun q => zx_thr x (fun z hz => (htab z hz).elim) q)
  refine z_aload_n (pc := 18) x 0 dX6_save_18 rfl rfl ?_
  refine z_iconst (pc := 19) x (v := (1 : Int32)) dX6_save_19 rfl ?_
  refine z_set_small fun hn hf => ?_
  refine z_set (pc := 20) (v := zI (1 : Int32)) x in_X6 tyX6 tyX6_ok nmX6 (ci := 34) rfl (k := 19) (by decide) q2804 (fun _ h => h) rfl hn hf dX6_save_20 ?_
  exact z_vret (pc := 23) x hret dX6_save_23
/-! X6_restore -/
def s_X6_restore_13 (E : zE) (a0 : Option Nat) (b0 : Option Nat) (b1 : Int32) : zM := zC (zRv b0 [(34, fun b => s_X6_isThrown E (some b) b1 (1 : Int32))]) zThr (zKI (fun v14 => if v14 = 0 then (zGetR a0 34 2 (fun v22 => zGetR a0 34 0 (fun v27 => zC (s_X6_copies E v22 (0 : Int32) v27 (0 : Int32)) zThr (zKV (zSet E a0 34 12 (zVal (zI (0 : Int32))) (zSetN E .boolean a0 34 20 (0 : Int32) (zRet none))))))) else (zRet none)))
theorem w_X6_restore_13 (x : zCx p l R s m args meth c E D tA cX6_restore 1 yX6_restore.cls 10) (hl : l.stackTraces = false) (hret : meth.sig.returnType = (Option.none : Option Jvm.ClassFile.FieldType)) (hnm : meth.name = yX6_restore.name) (htab : ∀ z ∈ c.exceptionTable.toList, False) (a0 : Option Nat) (b0 : Option Nat) (b1 : Int32) : zW p l e R s m args below meth c E D tA 1 k0 (s_X6_restore_13 E a0 b0 b1) [(0, zP a0)] 13 [zI b1, zP b0] := by
  unfold s_X6_restore_13
  refine z_iconst (pc := 13) x (v := (1 : Int32)) dX6_restore_13 rfl ?_
  refine z_call (pc := 14) (z_canV (pc := 14) (As := [zI b1, zI (1 : Int32)]) (st := []) x (ci := 34) rfl (fun b => m_X6_isThrown hl (some b) b1 (1 : Int32)) q2898 q2900 (z_selP x (ci := 34) rfl (by decide) (zNi_inst x q2780) q2899 q2900) q121 q2901 n_X6_isThrown ⟨by decide, by decide⟩ (Nat.le_of_ble_eq_true rfl) dX6_restore_14) (zv_I fun v14 => ?_) (fun q => zx_thr x (fun z hz => (htab z hz).elim) q)
  refine z_if_eq (pc := 17) (tgt := 21) x dX6_restore_17 rfl (fun _ => ?_) (fun _ => ?_)
  · refine z_aload_n (pc := 21) x 0 dX6_restore_21 rfl rfl ?_
    refine z_get (pc := 22) (fun _ _ h => zAsR_eq h) x in_X6 (ci := 34) rfl (k := 2) (by decide) q2787 (fun _ h => h) dX6_restore_22 fun v22 => ?_
    refine z_iconst (pc := 25) x (v := (0 : Int32)) dX6_restore_25 rfl ?_
    refine z_aload_n (pc := 26) x 0 dX6_restore_26 rfl rfl ?_
    refine z_get (pc := 27) (fun _ _ h => zAsR_eq h) x in_X6 (ci := 34) rfl (k := 0) (by decide) q2785 (fun _ h => h) dX6_restore_27 fun v27 => ?_
    refine z_iconst (pc := 30) x (v := (0 : Int32)) dX6_restore_30 rfl ?_
    refine z_call (pc := 31) (z_canS (pc := 31) (As := [zP v22, zI (0 : Int32), zP v27, zI (0 : Int32)]) (st := []) x (m_X6_copies hl v22 (0 : Int32) v27 (0 : Int32)) q2882 q2883 q121 q2884 n_X6_copies ⟨by decide, by decide⟩ (Nat.le_of_ble_eq_true rfl) dX6_restore_31) (zv_V ?_) (fun q => zx_thr x (fun z hz => (htab z hz).elim) q)
    refine z_aload_n (pc := 34) x 0 dX6_restore_34 rfl rfl ?_
    refine z_iconst (pc := 35) x (v := (0 : Int32)) dX6_restore_35 rfl ?_
    refine z_set (pc := 36) (v := zI (0 : Int32)) x in_X6 tyX6 tyX6_ok nmX6 (ci := 34) rfl (k := 12) (by decide) q2797 (fun _ h => h) rfl rfl rfl dX6_restore_36 ?_
    refine z_aload_n (pc := 39) x 0 dX6_restore_39 rfl rfl ?_
    refine z_iconst (pc := 40) x (v := (0 : Int32)) dX6_restore_40 rfl ?_
    refine z_set_small fun hn hf => ?_
    refine z_set (pc := 41) (v := zI (0 : Int32)) x in_X6 tyX6 tyX6_ok nmX6 (ci := 34) rfl (k := 20) (by decide) q2805 (fun _ h => h) rfl hn hf dX6_restore_41 ?_
    exact z_vret (pc := 44) x hret dX6_restore_44
  · exact z_vret (pc := 20) x hret dX6_restore_20
def s_X6_restore (E : zE) (a0 : Option Nat) : zM := zGetI a0 34 19 (fun v2 => if v2 = 0 then (s_X6_restore_13 E a0 a0 (1 : Int32)) else (s_X6_restore_13 E a0 a0 (0 : Int32)))
theorem m_X6_restore {l : Launch} {E : zE} {D : va_G} {tA : Nat → ClassId} (hl : l.stackTraces = false) (a0 : Option Nat) : zMet l E D tA yX6_restore (ws_ yX6_restore cX6_restore 1 (Option.none : Option Jvm.ClassFile.FieldType)) 10 (s_X6_restore E a0) [zP a0] := by
  refine z_met hl (by decide +kernel) (by rw [zSl_len]; exact (Nat.le_of_ble_eq_true rfl)) fun p e R s m args below meth c k0 x hret hnm htab => ?_
  refine z_lv [(0, zP a0)] rfl ?_
  unfold s_X6_restore
  refine z_aload_n (pc := 0) x 0 dX6_restore_0 rfl rfl ?_
  refine z_aload_n (pc := 1) x 0 dX6_restore_1 rfl rfl ?_
  refine z_get (pc := 2) (fun _ _ h => zAsI_eq h) x in_X6 (ci := 34) rfl (k := 19) (by decide) q2804 (fun _ h => h) dX6_restore_2 fun v2 => ?_
  refine z_if_ne (pc := 5) (tgt := 12) x dX6_restore_5 rfl (fun _ => ?_) (fun _ => ?_)
  · refine z_iconst (pc := 8) x (v := (1 : Int32)) dX6_restore_8 rfl ?_
    refine z_goto (pc := 9) (tgt := 13) x dX6_restore_9 rfl ?_
    exact z_sub [0] rfl (w_X6_restore_13 x hl hret hnm htab a0 a0 (1 : Int32))
  · refine z_iconst (pc := 12) x (v := (0 : Int32)) dX6_restore_12 rfl ?_
    exact z_sub [0] rfl (w_X6_restore_13 x hl hret hnm htab a0 a0 (0 : Int32))
end ZGEN8
