/-! ===== walks (by program) ===== -/
set_option maxRecDepth 100000
set_option linter.unusedVariables false
section ZGEN9
variable {p : Program} {l : Launch} {e : Env} {R : Room} {s : State} {m : MethodId} {args : Array Value} {below : List Frame} {meth : Method} {c : Code} {E : zE} {D : va_G} {tA : Nat → ClassId} {k0 : Nat}
/-! L_law -/
def yL_law : MethodName := x
def s_L_law_2702 (E : zE) (k28 : Option Nat → Option Nat → Option Nat → Option Nat → Option Nat → Int32 → zM) (a0 : Option Nat) (a1 : Option Nat) (a2 : Option Nat) (a3 : Option Nat) (a4 : Option Nat) (a5 : Int32) : zM := k28 a0 a1 a2 a3 a4 (a5 + (5 : Int32))
theorem w_L_law_2702 (x : zCx p l R s m args meth c E D tA cL_law 9 yL_law.cls 524) (hl : l.stackTraces = false) (hret : meth.sig.returnType = ret) (hnm : True) (htab : True) {k28 : Option Nat → Option Nat → Option Nat → Option Nat → Option Nat → Int32 → zM} (h28 : ∀ (a0 : Option Nat) (a1 : Option Nat) (a2 : Option Nat) (a3 : Option Nat) (a4 : Option Nat) (a5 : Int32) , zW p l e R s m args below meth c E D tA 9 k0 (k28 a0 a1 a2 a3 a4 a5) [(0, zP a0), (1, zP a1), (2, zP a2), (3, zP a3), (4, zP a4), (5, zI a5)] 28 []) (a0 : Option Nat) (a1 : Option Nat) (a2 : Option Nat) (a3 : Option Nat) (a4 : Option Nat) (a5 : Int32) : zW p l e R s m args below meth c E D tA 9 k0 (s_L_law_2702 E k28 a0 a1 a2 a3 a4 a5) [(0, zP a0), (1, zP a1), (2, zP a2), (3, zP a3), (4, zP a4), (5, zI a5)] 2702 [] := by
  unfold s_L_law_2702
  refine z_iinc (pc := 2702) (lv' := [(5, zI (a5 + (5 : Int32))), (0, zP a0), (1, zP a1), (2, zP a2), (3, zP a3), (4, zP a4)]) x (v2 := (a5 + (5 : Int32))) 5 dL_law_2702 rfl rfl (Nat.le_of_ble_eq_true rfl) rfl ?_
  refine z_goto (pc := 2705) (tgt := 28) x dL_law_2705 rfl ?_
  exact z_sub [1, 2, 3, 4, 5, 0] rfl (h28 a0 a1 a2 a3 a4 (a5 + (5 : Int32)))
def s_L_law_311 (E : zE) (k28 : Option Nat → Option Nat → Option Nat → Option Nat → Option Nat → Int32 → zM) (a0 : Option Nat) (a1 : Option Nat) (a2 : Option Nat) (a3 : Option Nat) (a4 : Option Nat) (a5 : Int32) : zM := s_L_law_2702 E k28 a0 a1 a2 a3 a4 a5
theorem w_L_law_311 (x : zCx p l R s m args meth c E D tA cL_law 9 yL_law.cls 524) (hl : l.stackTraces = false) (hret : meth.sig.returnType = ret) (hnm : True) (htab : True) {k28 : Option Nat → Option Nat → Option Nat → Option Nat → Option Nat → Int32 → zM} (h28 : ∀ (a0 : Option Nat) (a1 : Option Nat) (a2 : Option Nat) (a3 : Option Nat) (a4 : Option Nat) (a5 : Int32) , zW p l e R s m args below meth c E D tA 9 k0 (k28 a0 a1 a2 a3 a4 a5) [(0, zP a0), (1, zP a1), (2, zP a2), (3, zP a3), (4, zP a4), (5, zI a5)] 28 []) (a0 : Option Nat) (a1 : Option Nat) (a2 : Option Nat) (a3 : Option Nat) (a4 : Option Nat) (a5 : Int32) : zW p l e R s m args below meth c E D tA 9 k0 (s_L_law_311 E k28 a0 a1 a2 a3 a4 a5) [(0, zP a0), (1, zP a1), (2, zP a2), (3, zP a3), (4, zP a4), (5, zI a5)] 311 [] := by
  unfold s_L_law_311
  refine z_goto (pc := 311) (tgt := 2702) x dL_law_311 rfl ?_
  exact z_sub [0, 1, 2, 3, 4, 5] rfl (w_L_law_2702 x hl hret hnm htab h28 a0 a1 a2 a3 a4 a5)
def s_L_law_393 (E : zE) (k28 : Option Nat → Option Nat → Option Nat → Option Nat → Option Nat → Int32 → zM) (a0 : Option Nat) (a1 : Option Nat) (a2 : Option Nat) (a3 : Option Nat) (a4 : Option Nat) (a5 : Int32) : zM := s_L_law_2702 E k28 a0 a1 a2 a3 a4 a5
theorem w_L_law_393 (x : zCx p l R s m args meth c E D tA cL_law 9 yL_law.cls 524) (hl : l.stackTraces = false) (hret : meth.sig.returnType = ret) (hnm : True) (htab : True) {k28 : Option Nat → Option Nat → Option Nat → Option Nat → Option Nat → Int32 → zM} (h28 : ∀ (a0 : Option Nat) (a1 : Option Nat) (a2 : Option Nat) (a3 : Option Nat) (a4 : Option Nat) (a5 : Int32) , zW p l e R s m args below meth c E D tA 9 k0 (k28 a0 a1 a2 a3 a4 a5) [(0, zP a0), (1, zP a1), (2, zP a2), (3, zP a3), (4, zP a4), (5, zI a5)] 28 []) (a0 : Option Nat) (a1 : Option Nat) (a2 : Option Nat) (a3 : Option Nat) (a4 : Option Nat) (a5 : Int32) : zW p l e R s m args below meth c E D tA 9 k0 (s_L_law_393 E k28 a0 a1 a2 a3 a4 a5) [(0, zP a0), (1, zP a1), (2, zP a2), (3, zP a3), (4, zP a4), (5, zI a5)] 393 [] := by
  unfold s_L_law_393
  refine z_goto (pc := 393) (tgt := 2702) x dL_law_393 rfl ?_
  exact z_sub [0, 1, 2, 3, 4, 5] rfl (w_L_law_2702 x hl hret hnm htab h28 a0 a1 a2 a3 a4 a5)
def s_L_law_449 (E : zE) (k28 : Option Nat → Option Nat → Option Nat → Option Nat → Option Nat → Int32 → zM) (a0 : Option Nat) (a1 : Option Nat) (a2 : Option Nat) (a3 : Option Nat) (a4 : Option Nat) (a5 : Int32) : zM := s_L_law_2702 E k28 a0 a1 a2 a3 a4 a5
theorem w_L_law_449 (x : zCx p l R s m args meth c E D tA cL_law 9 yL_law.cls 524) (hl : l.stackTraces = false) (hret : meth.sig.returnType = ret) (hnm : True) (htab : True) {k28 : Option Nat → Option Nat → Option Nat → Option Nat → Option Nat → Int32 → zM} (h28 : ∀ (a0 : Option Nat) (a1 : Option Nat) (a2 : Option Nat) (a3 : Option Nat) (a4 : Option Nat) (a5 : Int32) , zW p l e R s m args below meth c E D tA 9 k0 (k28 a0 a1 a2 a3 a4 a5) [(0, zP a0), (1, zP a1), (2, zP a2), (3, zP a3), (4, zP a4), (5, zI a5)] 28 []) (a0 : Option Nat) (a1 : Option Nat) (a2 : Option Nat) (a3 : Option Nat) (a4 : Option Nat) (a5 : Int32) : zW p l e R s m args below meth c E D tA 9 k0 (s_L_law_449 E k28 a0 a1 a2 a3 a4 a5) [(0, zP a0), (1, zP a1), (2, zP a2), (3, zP a3), (4, zP a4), (5, zI a5)] 449 [] := by
  unfold s_L_law_449
  refine z_goto (pc := 449) (tgt := 2702) x dL_law_449 rfl ?_
  exact z_sub [0, 1, 2, 3, 4, 5] rfl (w_L_law_2702 x hl hret hnm htab h28 a0 a1 a2 a3 a4 a5)
def s_L_law_551 (E : zE) (k28 : Option Nat → Option Nat → Option Nat → Option Nat → Option Nat → Int32 → zM) (a0 : Option Nat) (a1 : Option Nat) (a2 : Option Nat) (a3 : Option Nat) (a4 : Option Nat) (a5 : Int32) : zM := s_L_law_2702 E k28 a0 a1 a2 a3 a4 a5
theorem w_L_law_551 (x : zCx p l R s m args meth c E D tA cL_law 9 yL_law.cls 524) (hl : l.stackTraces = false) (hret : meth.sig.returnType = ret) (hnm : True) (htab : True) {k28 : Option Nat → Option Nat → Option Nat → Option Nat → Option Nat → Int32 → zM} (h28 : ∀ (a0 : Option Nat) (a1 : Option Nat) (a2 : Option Nat) (a3 : Option Nat) (a4 : Option Nat) (a5 : Int32) , zW p l e R s m args below meth c E D tA 9 k0 (k28 a0 a1 a2 a3 a4 a5) [(0, zP a0), (1, zP a1), (2, zP a2), (3, zP a3), (4, zP a4), (5, zI a5)] 28 []) (a0 : Option Nat) (a1 : Option Nat) (a2 : Option Nat) (a3 : Option Nat) (a4 : Option Nat) (a5 : Int32) : zW p l e R s m args below meth c E D tA 9 k0 (s_L_law_551 E k28 a0 a1 a2 a3 a4 a5) [(0, zP a0), (1, zP a1), (2, zP a2), (3, zP a3), (4, zP a4), (5, zI a5)] 551 [] := by
  unfold s_L_law_551
  refine z_goto (pc := 551) (tgt := 2702) x dL_law_551 rfl ?_
  exact z_sub [0, 1, 2, 3, 4, 5] rfl (w_L_law_2702 x hl hret hnm htab h28 a0 a1 a2 a3 a4 a5)
def s_L_law_545 (E : zE) (k28 : Option Nat → Option Nat → Option Nat → Option Nat → Option Nat → Int32 → zM) (a0 : Option Nat) (a1 : Option Nat) (a2 : Option Nat) (a3 : Option Nat) (a4 : Option Nat) (a5 : Int32) (b0 : Int64) (b1 : Int64) : zM := if (lg_cmp b0 b1) = 0 then (s_L_law_551 E k28 a0 a1 a2 a3 a4 a5) else (zRetN .boolean (0 : Int32))
theorem w_L_law_545 (x : zCx p l R s m args meth c E D tA cL_law 9 yL_law.cls 524) (hl : l.stackTraces = false) (hret : meth.sig.returnType = ret) (hnm : True) (htab : True) {k28 : Option Nat → Option Nat → Option Nat → Option Nat → Option Nat → Int32 → zM} (h28 : ∀ (a0 : Option Nat) (a1 : Option Nat) (a2 : Option Nat) (a3 : Option Nat) (a4 : Option Nat) (a5 : Int32) , zW p l e R s m args below meth c E D tA 9 k0 (k28 a0 a1 a2 a3 a4 a5) [(0, zP a0), (1, zP a1), (2, zP a2), (3, zP a3), (4, zP a4), (5, zI a5)] 28 []) (a0 : Option Nat) (a1 : Option Nat) (a2 : Option Nat) (a3 : Option Nat) (a4 : Option Nat) (a5 : Int32) (b0 : Int64) (b1 : Int64) : zW p l e R s m args below meth c E D tA 9 k0 (s_L_law_545 E k28 a0 a1 a2 a3 a4 a5 b0 b1) [(0, zP a0), (1, zP a1), (2, zP a2), (3, zP a3), (4, zP a4), (5, zI a5)] 545 [zL b1, zL b0] := by
  unfold s_L_law_545
  refine z_lcmp (pc := 545) x dL_law_545 ?_
  refine z_if_eq (pc := 546) (tgt := 551) x dL_law_546 rfl (fun _ => ?_) (fun _ => ?_)
  · exact z_sub [0, 1, 2, 3, 4, 5] rfl (w_L_law_551 x hl hret hnm htab h28 a0 a1 a2 a3 a4 a5)
  · refine z_iconst (pc := 549) x (v := (0 : Int32)) dL_law_549 rfl ?_
    exact z_zret (pc := 550) x hret dL_law_550
def s_L_law_640 (E : zE) (k28 : Option Nat → Option Nat → Option Nat → Option Nat → Option Nat → Int32 → zM) (a0 : Option Nat) (a1 : Option Nat) (a2 : Option Nat) (a3 : Option Nat) (a4 : Option Nat) (a5 : Int32) : zM := s_L_law_2702 E k28 a0 a1 a2 a3 a4 a5
theorem w_L_law_640 (x : zCx p l R s m args meth c E D tA cL_law 9 yL_law.cls 524) (hl : l.stackTraces = false) (hret : meth.sig.returnType = ret) (hnm : True) (htab : True) {k28 : Option Nat → Option Nat → Option Nat → Option Nat → Option Nat → Int32 → zM} (h28 : ∀ (a0 : Option Nat) (a1 : Option Nat) (a2 : Option Nat) (a3 : Option Nat) (a4 : Option Nat) (a5 : Int32) , zW p l e R s m args below meth c E D tA 9 k0 (k28 a0 a1 a2 a3 a4 a5) [(0, zP a0), (1, zP a1), (2, zP a2), (3, zP a3), (4, zP a4), (5, zI a5)] 28 []) (a0 : Option Nat) (a1 : Option Nat) (a2 : Option Nat) (a3 : Option Nat) (a4 : Option Nat) (a5 : Int32) : zW p l e R s m args below meth c E D tA 9 k0 (s_L_law_640 E k28 a0 a1 a2 a3 a4 a5) [(0, zP a0), (1, zP a1), (2, zP a2), (3, zP a3), (4, zP a4), (5, zI a5)] 640 [] := by
  unfold s_L_law_640
  refine z_goto (pc := 640) (tgt := 2702) x dL_law_640 rfl ?_
  exact z_sub [0, 1, 2, 3, 4, 5] rfl (w_L_law_2702 x hl hret hnm htab h28 a0 a1 a2 a3 a4 a5)
def s_L_law_634 (E : zE) (k28 : Option Nat → Option Nat → Option Nat → Option Nat → Option Nat → Int32 → zM) (a0 : Option Nat) (a1 : Option Nat) (a2 : Option Nat) (a3 : Option Nat) (a4 : Option Nat) (a5 : Int32) (b0 : Int64) (b1 : Int64) : zM := if (lg_cmp b0 b1) = 0 then (s_L_law_640 E k28 a0 a1 a2 a3 a4 a5) else (zRetN .boolean (0 : Int32))
theorem w_L_law_634 (x : zCx p l R s m args meth c E D tA cL_law 9 yL_law.cls 524) (hl : l.stackTraces = false) (hret : meth.sig.returnType = ret) (hnm : True) (htab : True) {k28 : Option Nat → Option Nat → Option Nat → Option Nat → Option Nat → Int32 → zM} (h28 : ∀ (a0 : Option Nat) (a1 : Option Nat) (a2 : Option Nat) (a3 : Option Nat) (a4 : Option Nat) (a5 : Int32) , zW p l e R s m args below meth c E D tA 9 k0 (k28 a0 a1 a2 a3 a4 a5) [(0, zP a0), (1, zP a1), (2, zP a2), (3, zP a3), (4, zP a4), (5, zI a5)] 28 []) (a0 : Option Nat) (a1 : Option Nat) (a2 : Option Nat) (a3 : Option Nat) (a4 : Option Nat) (a5 : Int32) (b0 : Int64) (b1 : Int64) : zW p l e R s m args below meth c E D tA 9 k0 (s_L_law_634 E k28 a0 a1 a2 a3 a4 a5 b0 b1) [(0, zP a0), (1, zP a1), (2, zP a2), (3, zP a3), (4, zP a4), (5, zI a5)] 634 [zL b1, zL b0] := by
  unfold s_L_law_634
  refine z_lcmp (pc := 634) x dL_law_634 ?_
  refine z_if_eq (pc := 635) (tgt := 640) x dL_law_635 rfl (fun _ => ?_) (fun _ => ?_)
  · exact z_sub [0, 1, 2, 3, 4, 5] rfl (w_L_law_640 x hl hret hnm htab h28 a0 a1 a2 a3 a4 a5)
  · refine z_iconst (pc := 638) x (v := (0 : Int32)) dL_law_638 rfl ?_
    exact z_zret (pc := 639) x hret dL_law_639
def s_L_law_729 (E : zE) (k28 : Option Nat → Option Nat → Option Nat → Option Nat → Option Nat → Int32 → zM) (a0 : Option Nat) (a1 : Option Nat) (a2 : Option Nat) (a3 : Option Nat) (a4 : Option Nat) (a5 : Int32) : zM := s_L_law_2702 E k28 a0 a1 a2 a3 a4 a5
theorem w_L_law_729 (x : zCx p l R s m args meth c E D tA cL_law 9 yL_law.cls 524) (hl : l.stackTraces = false) (hret : meth.sig.returnType = ret) (hnm : True) (htab : True) {k28 : Option Nat → Option Nat → Option Nat → Option Nat → Option Nat → Int32 → zM} (h28 : ∀ (a0 : Option Nat) (a1 : Option Nat) (a2 : Option Nat) (a3 : Option Nat) (a4 : Option Nat) (a5 : Int32) , zW p l e R s m args below meth c E D tA 9 k0 (k28 a0 a1 a2 a3 a4 a5) [(0, zP a0), (1, zP a1), (2, zP a2), (3, zP a3), (4, zP a4), (5, zI a5)] 28 []) (a0 : Option Nat) (a1 : Option Nat) (a2 : Option Nat) (a3 : Option Nat) (a4 : Option Nat) (a5 : Int32) : zW p l e R s m args below meth c E D tA 9 k0 (s_L_law_729 E k28 a0 a1 a2 a3 a4 a5) [(0, zP a0), (1, zP a1), (2, zP a2), (3, zP a3), (4, zP a4), (5, zI a5)] 729 [] := by
  unfold s_L_law_729
  refine z_goto (pc := 729) (tgt := 2702) x dL_law_729 rfl ?_
  exact z_sub [0, 1, 2, 3, 4, 5] rfl (w_L_law_2702 x hl hret hnm htab h28 a0 a1 a2 a3 a4 a5)
def s_L_law_723 (E : zE) (k28 : Option Nat → Option Nat → Option Nat → Option Nat → Option Nat → Int32 → zM) (a0 : Option Nat) (a1 : Option Nat) (a2 : Option Nat) (a3 : Option Nat) (a4 : Option Nat) (a5 : Int32) (b0 : Int64) (b1 : Int64) : zM := if (lg_cmp b0 b1) = 0 then (s_L_law_729 E k28 a0 a1 a2 a3 a4 a5) else (zRetN .boolean (0 : Int32))
theorem w_L_law_723 (x : zCx p l R s m args meth c E D tA cL_law 9 yL_law.cls 524) (hl : l.stackTraces = false) (hret : meth.sig.returnType = ret) (hnm : True) (htab : True) {k28 : Option Nat → Option Nat → Option Nat → Option Nat → Option Nat → Int32 → zM} (h28 : ∀ (a0 : Option Nat) (a1 : Option Nat) (a2 : Option Nat) (a3 : Option Nat) (a4 : Option Nat) (a5 : Int32) , zW p l e R s m args below meth c E D tA 9 k0 (k28 a0 a1 a2 a3 a4 a5) [(0, zP a0), (1, zP a1), (2, zP a2), (3, zP a3), (4, zP a4), (5, zI a5)] 28 []) (a0 : Option Nat) (a1 : Option Nat) (a2 : Option Nat) (a3 : Option Nat) (a4 : Option Nat) (a5 : Int32) (b0 : Int64) (b1 : Int64) : zW p l e R s m args below meth c E D tA 9 k0 (s_L_law_723 E k28 a0 a1 a2 a3 a4 a5 b0 b1) [(0, zP a0), (1, zP a1), (2, zP a2), (3, zP a3), (4, zP a4), (5, zI a5)] 723 [zL b1, zL b0] := by
  unfold s_L_law_723
  refine z_lcmp (pc := 723) x dL_law_723 ?_
  refine z_if_eq (pc := 724) (tgt := 729) x dL_law_724 rfl (fun _ => ?_) (fun _ => ?_)
  · exact z_sub [0, 1, 2, 3, 4, 5] rfl (w_L_law_729 x hl hret hnm htab h28 a0 a1 a2 a3 a4 a5)
  · refine z_iconst (pc := 727) x (v := (0 : Int32)) dL_law_727 rfl ?_
    exact z_zret (pc := 728) x hret dL_law_728
def s_L_law_787 (E : zE) (k28 : Option Nat → Option Nat → Option Nat → Option Nat → Option Nat → Int32 → zM) (a0 : Option Nat) (a1 : Option Nat) (a2 : Option Nat) (a3 : Option Nat) (a4 : Option Nat) (a5 : Int32) : zM := s_L_law_2702 E k28 a0 a1 a2 a3 a4 a5
theorem w_L_law_787 (x : zCx p l R s m args meth c E D tA cL_law 9 yL_law.cls 524) (hl : l.stackTraces = false) (hret : meth.sig.returnType = ret) (hnm : True) (htab : True) {k28 : Option Nat → Option Nat → Option Nat → Option Nat → Option Nat → Int32 → zM} (h28 : ∀ (a0 : Option Nat) (a1 : Option Nat) (a2 : Option Nat) (a3 : Option Nat) (a4 : Option Nat) (a5 : Int32) , zW p l e R s m args below meth c E D tA 9 k0 (k28 a0 a1 a2 a3 a4 a5) [(0, zP a0), (1, zP a1), (2, zP a2), (3, zP a3), (4, zP a4), (5, zI a5)] 28 []) (a0 : Option Nat) (a1 : Option Nat) (a2 : Option Nat) (a3 : Option Nat) (a4 : Option Nat) (a5 : Int32) : zW p l e R s m args below meth c E D tA 9 k0 (s_L_law_787 E k28 a0 a1 a2 a3 a4 a5) [(0, zP a0), (1, zP a1), (2, zP a2), (3, zP a3), (4, zP a4), (5, zI a5)] 787 [] := by
  unfold s_L_law_787
  refine z_goto (pc := 787) (tgt := 2702) x dL_law_787 rfl ?_
  exact z_sub [0, 1, 2, 3, 4, 5] rfl (w_L_law_2702 x hl hret hnm htab h28 a0 a1 a2 a3 a4 a5)
def s_L_law_882 (E : zE) (k28 : Option Nat → Option Nat → Option Nat → Option Nat → Option Nat → Int32 → zM) (a0 : Option Nat) (a1 : Option Nat) (a2 : Option Nat) (a3 : Option Nat) (a4 : Option Nat) (a5 : Int32) : zM := s_L_law_2702 E k28 a0 a1 a2 a3 a4 a5
theorem w_L_law_882 (x : zCx p l R s m args meth c E D tA cL_law 9 yL_law.cls 524) (hl : l.stackTraces = false) (hret : meth.sig.returnType = ret) (hnm : True) (htab : True) {k28 : Option Nat → Option Nat → Option Nat → Option Nat → Option Nat → Int32 → zM} (h28 : ∀ (a0 : Option Nat) (a1 : Option Nat) (a2 : Option Nat) (a3 : Option Nat) (a4 : Option Nat) (a5 : Int32) , zW p l e R s m args below meth c E D tA 9 k0 (k28 a0 a1 a2 a3 a4 a5) [(0, zP a0), (1, zP a1), (2, zP a2), (3, zP a3), (4, zP a4), (5, zI a5)] 28 []) (a0 : Option Nat) (a1 : Option Nat) (a2 : Option Nat) (a3 : Option Nat) (a4 : Option Nat) (a5 : Int32) : zW p l e R s m args below meth c E D tA 9 k0 (s_L_law_882 E k28 a0 a1 a2 a3 a4 a5) [(0, zP a0), (1, zP a1), (2, zP a2), (3, zP a3), (4, zP a4), (5, zI a5)] 882 [] := by
  unfold s_L_law_882
  refine z_goto (pc := 882) (tgt := 2702) x dL_law_882 rfl ?_
  exact z_sub [0, 1, 2, 3, 4, 5] rfl (w_L_law_2702 x hl hret hnm htab h28 a0 a1 a2 a3 a4 a5)
def s_L_law_952 (E : zE) (k28 : Option Nat → Option Nat → Option Nat → Option Nat → Option Nat → Int32 → zM) (a0 : Option Nat) (a1 : Option Nat) (a2 : Option Nat) (a3 : Option Nat) (a4 : Option Nat) (a5 : Int32) : zM := s_L_law_2702 E k28 a0 a1 a2 a3 a4 a5
theorem w_L_law_952 (x : zCx p l R s m args meth c E D tA cL_law 9 yL_law.cls 524) (hl : l.stackTraces = false) (hret : meth.sig.returnType = ret) (hnm : True) (htab : True) {k28 : Option Nat → Option Nat → Option Nat → Option Nat → Option Nat → Int32 → zM} (h28 : ∀ (a0 : Option Nat) (a1 : Option Nat) (a2 : Option Nat) (a3 : Option Nat) (a4 : Option Nat) (a5 : Int32) , zW p l e R s m args below meth c E D tA 9 k0 (k28 a0 a1 a2 a3 a4 a5) [(0, zP a0), (1, zP a1), (2, zP a2), (3, zP a3), (4, zP a4), (5, zI a5)] 28 []) (a0 : Option Nat) (a1 : Option Nat) (a2 : Option Nat) (a3 : Option Nat) (a4 : Option Nat) (a5 : Int32) : zW p l e R s m args below meth c E D tA 9 k0 (s_L_law_952 E k28 a0 a1 a2 a3 a4 a5) [(0, zP a0), (1, zP a1), (2, zP a2), (3, zP a3), (4, zP a4), (5, zI a5)] 952 [] := by
  unfold s_L_law_952
  refine z_goto (pc := 952) (tgt := 2702) x dL_law_952 rfl ?_
  exact z_sub [0, 1, 2, 3, 4, 5] rfl (w_L_law_2702 x hl hret hnm htab h28 a0 a1 a2 a3 a4 a5)
def s_L_law_1010 (E : zE) (k28 : Option Nat → Option Nat → Option Nat → Option Nat → Option Nat → Int32 → zM) (a0 : Option Nat) (a1 : Option Nat) (a2 : Option Nat) (a3 : Option Nat) (a4 : Option Nat) (a5 : Int32) : zM := s_L_law_2702 E k28 a0 a1 a2 a3 a4 a5
theorem w_L_law_1010 (x : zCx p l R s m args meth c E D tA cL_law 9 yL_law.cls 524) (hl : l.stackTraces = false) (hret : meth.sig.returnType = ret) (hnm : True) (htab : True) {k28 : Option Nat → Option Nat → Option Nat → Option Nat → Option Nat → Int32 → zM} (h28 : ∀ (a0 : Option Nat) (a1 : Option Nat) (a2 : Option Nat) (a3 : Option Nat) (a4 : Option Nat) (a5 : Int32) , zW p l e R s m args below meth c E D tA 9 k0 (k28 a0 a1 a2 a3 a4 a5) [(0, zP a0), (1, zP a1), (2, zP a2), (3, zP a3), (4, zP a4), (5, zI a5)] 28 []) (a0 : Option Nat) (a1 : Option Nat) (a2 : Option Nat) (a3 : Option Nat) (a4 : Option Nat) (a5 : Int32) : zW p l e R s m args below meth c E D tA 9 k0 (s_L_law_1010 E k28 a0 a1 a2 a3 a4 a5) [(0, zP a0), (1, zP a1), (2, zP a2), (3, zP a3), (4, zP a4), (5, zI a5)] 1010 [] := by
  unfold s_L_law_1010
  refine z_goto (pc := 1010) (tgt := 2702) x dL_law_1010 rfl ?_
  exact z_sub [0, 1, 2, 3, 4, 5] rfl (w_L_law_2702 x hl hret hnm htab h28 a0 a1 a2 a3 a4 a5)
def s_L_law_1092 (E : zE) (k28 : Option Nat → Option Nat → Option Nat → Option Nat → Option Nat → Int32 → zM) (a0 : Option Nat) (a1 : Option Nat) (a2 : Option Nat) (a3 : Option Nat) (a4 : Option Nat) (a5 : Int32) : zM := s_L_law_2702 E k28 a0 a1 a2 a3 a4 a5
theorem w_L_law_1092 (x : zCx p l R s m args meth c E D tA cL_law 9 yL_law.cls 524) (hl : l.stackTraces = false) (hret : meth.sig.returnType = ret) (hnm : True) (htab : True) {k28 : Option Nat → Option Nat → Option Nat → Option Nat → Option Nat → Int32 → zM} (h28 : ∀ (a0 : Option Nat) (a1 : Option Nat) (a2 : Option Nat) (a3 : Option Nat) (a4 : Option Nat) (a5 : Int32) , zW p l e R s m args below meth c E D tA 9 k0 (k28 a0 a1 a2 a3 a4 a5) [(0, zP a0), (1, zP a1), (2, zP a2), (3, zP a3), (4, zP a4), (5, zI a5)] 28 []) (a0 : Option Nat) (a1 : Option Nat) (a2 : Option Nat) (a3 : Option Nat) (a4 : Option Nat) (a5 : Int32) : zW p l e R s m args below meth c E D tA 9 k0 (s_L_law_1092 E k28 a0 a1 a2 a3 a4 a5) [(0, zP a0), (1, zP a1), (2, zP a2), (3, zP a3), (4, zP a4), (5, zI a5)] 1092 [] := by
  unfold s_L_law_1092
  refine z_goto (pc := 1092) (tgt := 2702) x dL_law_1092 rfl ?_
  exact z_sub [0, 1, 2, 3, 4, 5] rfl (w_L_law_2702 x hl hret hnm htab h28 a0 a1 a2 a3 a4 a5)
def s_L_law_1174 (E : zE) (k28 : Option Nat → Option Nat → Option Nat → Option Nat → Option Nat → Int32 → zM) (a0 : Option Nat) (a1 : Option Nat) (a2 : Option Nat) (a3 : Option Nat) (a4 : Option Nat) (a5 : Int32) : zM := s_L_law_2702 E k28 a0 a1 a2 a3 a4 a5
theorem w_L_law_1174 (x : zCx p l R s m args meth c E D tA cL_law 9 yL_law.cls 524) (hl : l.stackTraces = false) (hret : meth.sig.returnType = ret) (hnm : True) (htab : True) {k28 : Option Nat → Option Nat → Option Nat → Option Nat → Option Nat → Int32 → zM} (h28 : ∀ (a0 : Option Nat) (a1 : Option Nat) (a2 : Option Nat) (a3 : Option Nat) (a4 : Option Nat) (a5 : Int32) , zW p l e R s m args below meth c E D tA 9 k0 (k28 a0 a1 a2 a3 a4 a5) [(0, zP a0), (1, zP a1), (2, zP a2), (3, zP a3), (4, zP a4), (5, zI a5)] 28 []) (a0 : Option Nat) (a1 : Option Nat) (a2 : Option Nat) (a3 : Option Nat) (a4 : Option Nat) (a5 : Int32) : zW p l e R s m args below meth c E D tA 9 k0 (s_L_law_1174 E k28 a0 a1 a2 a3 a4 a5) [(0, zP a0), (1, zP a1), (2, zP a2), (3, zP a3), (4, zP a4), (5, zI a5)] 1174 [] := by
  unfold s_L_law_1174
  refine z_goto (pc := 1174) (tgt := 2702) x dL_law_1174 rfl ?_
  exact z_sub [0, 1, 2, 3, 4, 5] rfl (w_L_law_2702 x hl hret hnm htab h28 a0 a1 a2 a3 a4 a5)
def s_L_law_1256 (E : zE) (k28 : Option Nat → Option Nat → Option Nat → Option Nat → Option Nat → Int32 → zM) (a0 : Option Nat) (a1 : Option Nat) (a2 : Option Nat) (a3 : Option Nat) (a4 : Option Nat) (a5 : Int32) : zM := s_L_law_2702 E k28 a0 a1 a2 a3 a4 a5
theorem w_L_law_1256 (x : zCx p l R s m args meth c E D tA cL_law 9 yL_law.cls 524) (hl : l.stackTraces = false) (hret : meth.sig.returnType = ret) (hnm : True) (htab : True) {k28 : Option Nat → Option Nat → Option Nat → Option Nat → Option Nat → Int32 → zM} (h28 : ∀ (a0 : Option Nat) (a1 : Option Nat) (a2 : Option Nat) (a3 : Option Nat) (a4 : Option Nat) (a5 : Int32) , zW p l e R s m args below meth c E D tA 9 k0 (k28 a0 a1 a2 a3 a4 a5) [(0, zP a0), (1, zP a1), (2, zP a2), (3, zP a3), (4, zP a4), (5, zI a5)] 28 []) (a0 : Option Nat) (a1 : Option Nat) (a2 : Option Nat) (a3 : Option Nat) (a4 : Option Nat) (a5 : Int32) : zW p l e R s m args below meth c E D tA 9 k0 (s_L_law_1256 E k28 a0 a1 a2 a3 a4 a5) [(0, zP a0), (1, zP a1), (2, zP a2), (3, zP a3), (4, zP a4), (5, zI a5)] 1256 [] := by
  unfold s_L_law_1256
  refine z_goto (pc := 1256) (tgt := 2702) x dL_law_1256 rfl ?_
  exact z_sub [0, 1, 2, 3, 4, 5] rfl (w_L_law_2702 x hl hret hnm htab h28 a0 a1 a2 a3 a4 a5)
def s_L_law_1337 (E : zE) (k28 : Option Nat → Option Nat → Option Nat → Option Nat → Option Nat → Int32 → zM) (a0 : Option Nat) (a1 : Option Nat) (a2 : Option Nat) (a3 : Option Nat) (a4 : Option Nat) (a5 : Int32) : zM := s_L_law_2702 E k28 a0 a1 a2 a3 a4 a5
theorem w_L_law_1337 (x : zCx p l R s m args meth c E D tA cL_law 9 yL_law.cls 524) (hl : l.stackTraces = false) (hret : meth.sig.returnType = ret) (hnm : True) (htab : True) {k28 : Option Nat → Option Nat → Option Nat → Option Nat → Option Nat → Int32 → zM} (h28 : ∀ (a0 : Option Nat) (a1 : Option Nat) (a2 : Option Nat) (a3 : Option Nat) (a4 : Option Nat) (a5 : Int32) , zW p l e R s m args below meth c E D tA 9 k0 (k28 a0 a1 a2 a3 a4 a5) [(0, zP a0), (1, zP a1), (2, zP a2), (3, zP a3), (4, zP a4), (5, zI a5)] 28 []) (a0 : Option Nat) (a1 : Option Nat) (a2 : Option Nat) (a3 : Option Nat) (a4 : Option Nat) (a5 : Int32) : zW p l e R s m args below meth c E D tA 9 k0 (s_L_law_1337 E k28 a0 a1 a2 a3 a4 a5) [(0, zP a0), (1, zP a1), (2, zP a2), (3, zP a3), (4, zP a4), (5, zI a5)] 1337 [] := by
  unfold s_L_law_1337
  refine z_goto (pc := 1337) (tgt := 2702) x dL_law_1337 rfl ?_
  exact z_sub [0, 1, 2, 3, 4, 5] rfl (w_L_law_2702 x hl hret hnm htab h28 a0 a1 a2 a3 a4 a5)
def s_L_law_1419 (E : zE) (k28 : Option Nat → Option Nat → Option Nat → Option Nat → Option Nat → Int32 → zM) (a0 : Option Nat) (a1 : Option Nat) (a2 : Option Nat) (a3 : Option Nat) (a4 : Option Nat) (a5 : Int32) : zM := s_L_law_2702 E k28 a0 a1 a2 a3 a4 a5
theorem w_L_law_1419 (x : zCx p l R s m args meth c E D tA cL_law 9 yL_law.cls 524) (hl : l.stackTraces = false) (hret : meth.sig.returnType = ret) (hnm : True) (htab : True) {k28 : Option Nat → Option Nat → Option Nat → Option Nat → Option Nat → Int32 → zM} (h28 : ∀ (a0 : Option Nat) (a1 : Option Nat) (a2 : Option Nat) (a3 : Option Nat) (a4 : Option Nat) (a5 : Int32) , zW p l e R s m args below meth c E D tA 9 k0 (k28 a0 a1 a2 a3 a4 a5) [(0, zP a0), (1, zP a1), (2, zP a2), (3, zP a3), (4, zP a4), (5, zI a5)] 28 []) (a0 : Option Nat) (a1 : Option Nat) (a2 : Option Nat) (a3 : Option Nat) (a4 : Option Nat) (a5 : Int32) : zW p l e R s m args below meth c E D tA 9 k0 (s_L_law_1419 E k28 a0 a1 a2 a3 a4 a5) [(0, zP a0), (1, zP a1), (2, zP a2), (3, zP a3), (4, zP a4), (5, zI a5)] 1419 [] := by
  unfold s_L_law_1419
  refine z_goto (pc := 1419) (tgt := 2702) x dL_law_1419 rfl ?_
  exact z_sub [0, 1, 2, 3, 4, 5] rfl (w_L_law_2702 x hl hret hnm htab h28 a0 a1 a2 a3 a4 a5)
def s_L_law_1501 (E : zE) (k28 : Option Nat → Option Nat → Option Nat → Option Nat → Option Nat → Int32 → zM) (a0 : Option Nat) (a1 : Option Nat) (a2 : Option Nat) (a3 : Option Nat) (a4 : Option Nat) (a5 : Int32) : zM := s_L_law_2702 E k28 a0 a1 a2 a3 a4 a5
theorem w_L_law_1501 (x : zCx p l R s m args meth c E D tA cL_law 9 yL_law.cls 524) (hl : l.stackTraces = false) (hret : meth.sig.returnType = ret) (hnm : True) (htab : True) {k28 : Option Nat → Option Nat → Option Nat → Option Nat → Option Nat → Int32 → zM} (h28 : ∀ (a0 : Option Nat) (a1 : Option Nat) (a2 : Option Nat) (a3 : Option Nat) (a4 : Option Nat) (a5 : Int32) , zW p l e R s m args below meth c E D tA 9 k0 (k28 a0 a1 a2 a3 a4 a5) [(0, zP a0), (1, zP a1), (2, zP a2), (3, zP a3), (4, zP a4), (5, zI a5)] 28 []) (a0 : Option Nat) (a1 : Option Nat) (a2 : Option Nat) (a3 : Option Nat) (a4 : Option Nat) (a5 : Int32) : zW p l e R s m args below meth c E D tA 9 k0 (s_L_law_1501 E k28 a0 a1 a2 a3 a4 a5) [(0, zP a0), (1, zP a1), (2, zP a2), (3, zP a3), (4, zP a4), (5, zI a5)] 1501 [] := by
  unfold s_L_law_1501
  refine z_goto (pc := 1501) (tgt := 2702) x dL_law_1501 rfl ?_
  exact z_sub [0, 1, 2, 3, 4, 5] rfl (w_L_law_2702 x hl hret hnm htab h28 a0 a1 a2 a3 a4 a5)
def s_L_law_1595 (E : zE) (k28 : Option Nat → Option Nat → Option Nat → Option Nat → Option Nat → Int32 → zM) (a0 : Option Nat) (a1 : Option Nat) (a2 : Option Nat) (a3 : Option Nat) (a4 : Option Nat) (a5 : Int32) : zM := s_L_law_2702 E k28 a0 a1 a2 a3 a4 a5
theorem w_L_law_1595 (x : zCx p l R s m args meth c E D tA cL_law 9 yL_law.cls 524) (hl : l.stackTraces = false) (hret : meth.sig.returnType = ret) (hnm : True) (htab : True) {k28 : Option Nat → Option Nat → Option Nat → Option Nat → Option Nat → Int32 → zM} (h28 : ∀ (a0 : Option Nat) (a1 : Option Nat) (a2 : Option Nat) (a3 : Option Nat) (a4 : Option Nat) (a5 : Int32) , zW p l e R s m args below meth c E D tA 9 k0 (k28 a0 a1 a2 a3 a4 a5) [(0, zP a0), (1, zP a1), (2, zP a2), (3, zP a3), (4, zP a4), (5, zI a5)] 28 []) (a0 : Option Nat) (a1 : Option Nat) (a2 : Option Nat) (a3 : Option Nat) (a4 : Option Nat) (a5 : Int32) : zW p l e R s m args below meth c E D tA 9 k0 (s_L_law_1595 E k28 a0 a1 a2 a3 a4 a5) [(0, zP a0), (1, zP a1), (2, zP a2), (3, zP a3), (4, zP a4), (5, zI a5)] 1595 [] := by
  unfold s_L_law_1595
  refine z_goto (pc := 1595) (tgt := 2702) x dL_law_1595 rfl ?_
  exact z_sub [0, 1, 2, 3, 4, 5] rfl (w_L_law_2702 x hl hret hnm htab h28 a0 a1 a2 a3 a4 a5)
def s_L_law_1664 (E : zE) (k28 : Option Nat → Option Nat → Option Nat → Option Nat → Option Nat → Int32 → zM) (a0 : Option Nat) (a1 : Option Nat) (a2 : Option Nat) (a3 : Option Nat) (a4 : Option Nat) (a5 : Int32) : zM := s_L_law_2702 E k28 a0 a1 a2 a3 a4 a5
theorem w_L_law_1664 (x : zCx p l R s m args meth c E D tA cL_law 9 yL_law.cls 524) (hl : l.stackTraces = false) (hret : meth.sig.returnType = ret) (hnm : True) (htab : True) {k28 : Option Nat → Option Nat → Option Nat → Option Nat → Option Nat → Int32 → zM} (h28 : ∀ (a0 : Option Nat) (a1 : Option Nat) (a2 : Option Nat) (a3 : Option Nat) (a4 : Option Nat) (a5 : Int32) , zW p l e R s m args below meth c E D tA 9 k0 (k28 a0 a1 a2 a3 a4 a5) [(0, zP a0), (1, zP a1), (2, zP a2), (3, zP a3), (4, zP a4), (5, zI a5)] 28 []) (a0 : Option Nat) (a1 : Option Nat) (a2 : Option Nat) (a3 : Option Nat) (a4 : Option Nat) (a5 : Int32) : zW p l e R s m args below meth c E D tA 9 k0 (s_L_law_1664 E k28 a0 a1 a2 a3 a4 a5) [(0, zP a0), (1, zP a1), (2, zP a2), (3, zP a3), (4, zP a4), (5, zI a5)] 1664 [] := by
  unfold s_L_law_1664
  refine z_goto (pc := 1664) (tgt := 2702) x dL_law_1664 rfl ?_
  exact z_sub [0, 1, 2, 3, 4, 5] rfl (w_L_law_2702 x hl hret hnm htab h28 a0 a1 a2 a3 a4 a5)
def s_L_law_1727 (E : zE) (k28 : Option Nat → Option Nat → Option Nat → Option Nat → Option Nat → Int32 → zM) (a0 : Option Nat) (a1 : Option Nat) (a2 : Option Nat) (a3 : Option Nat) (a4 : Option Nat) (a5 : Int32) : zM := s_L_law_2702 E k28 a0 a1 a2 a3 a4 a5
theorem w_L_law_1727 (x : zCx p l R s m args meth c E D tA cL_law 9 yL_law.cls 524) (hl : l.stackTraces = false) (hret : meth.sig.returnType = ret) (hnm : True) (htab : True) {k28 : Option Nat → Option Nat → Option Nat → Option Nat → Option Nat → Int32 → zM} (h28 : ∀ (a0 : Option Nat) (a1 : Option Nat) (a2 : Option Nat) (a3 : Option Nat) (a4 : Option Nat) (a5 : Int32) , zW p l e R s m args below meth c E D tA 9 k0 (k28 a0 a1 a2 a3 a4 a5) [(0, zP a0), (1, zP a1), (2, zP a2), (3, zP a3), (4, zP a4), (5, zI a5)] 28 []) (a0 : Option Nat) (a1 : Option Nat) (a2 : Option Nat) (a3 : Option Nat) (a4 : Option Nat) (a5 : Int32) : zW p l e R s m args below meth c E D tA 9 k0 (s_L_law_1727 E k28 a0 a1 a2 a3 a4 a5) [(0, zP a0), (1, zP a1), (2, zP a2), (3, zP a3), (4, zP a4), (5, zI a5)] 1727 [] := by
  unfold s_L_law_1727
  refine z_goto (pc := 1727) (tgt := 2702) x dL_law_1727 rfl ?_
  exact z_sub [0, 1, 2, 3, 4, 5] rfl (w_L_law_2702 x hl hret hnm htab h28 a0 a1 a2 a3 a4 a5)
def s_L_law_1721 (E : zE) (k28 : Option Nat → Option Nat → Option Nat → Option Nat → Option Nat → Int32 → zM) (a0 : Option Nat) (a1 : Option Nat) (a2 : Option Nat) (a3 : Option Nat) (a4 : Option Nat) (a5 : Int32) (b0 : Int64) (b1 : Int64) : zM := if (lg_cmp b0 b1) = 0 then (s_L_law_1727 E k28 a0 a1 a2 a3 a4 a5) else (zRetN .boolean (0 : Int32))
theorem w_L_law_1721 (x : zCx p l R s m args meth c E D tA cL_law 9 yL_law.cls 524) (hl : l.stackTraces = false) (hret : meth.sig.returnType = ret) (hnm : True) (htab : True) {k28 : Option Nat → Option Nat → Option Nat → Option Nat → Option Nat → Int32 → zM} (h28 : ∀ (a0 : Option Nat) (a1 : Option Nat) (a2 : Option Nat) (a3 : Option Nat) (a4 : Option Nat) (a5 : Int32) , zW p l e R s m args below meth c E D tA 9 k0 (k28 a0 a1 a2 a3 a4 a5) [(0, zP a0), (1, zP a1), (2, zP a2), (3, zP a3), (4, zP a4), (5, zI a5)] 28 []) (a0 : Option Nat) (a1 : Option Nat) (a2 : Option Nat) (a3 : Option Nat) (a4 : Option Nat) (a5 : Int32) (b0 : Int64) (b1 : Int64) : zW p l e R s m args below meth c E D tA 9 k0 (s_L_law_1721 E k28 a0 a1 a2 a3 a4 a5 b0 b1) [(0, zP a0), (1, zP a1), (2, zP a2), (3, zP a3), (4, zP a4), (5, zI a5)] 1721 [zL b1, zL b0] := by
  unfold s_L_law_1721
  refine z_lcmp (pc := 1721) x dL_law_1721 ?_
  refine z_if_eq (pc := 1722) (tgt := 1727) x dL_law_1722 rfl (fun _ => ?_) (fun _ => ?_)
  · exact z_sub [0, 1, 2, 3, 4, 5] rfl (w_L_law_1727 x hl hret hnm htab h28 a0 a1 a2 a3 a4 a5)
  · refine z_iconst (pc := 1725) x (v := (0 : Int32)) dL_law_1725 rfl ?_
    exact z_zret (pc := 1726) x hret dL_law_1726
def s_L_law_1783 (E : zE) (k28 : Option Nat → Option Nat → Option Nat → Option Nat → Option Nat → Int32 → zM) (a0 : Option Nat) (a1 : Option Nat) (a2 : Option Nat) (a3 : Option Nat) (a4 : Option Nat) (a5 : Int32) : zM := s_L_law_2702 E k28 a0 a1 a2 a3 a4 a5
theorem w_L_law_1783 (x : zCx p l R s m args meth c E D tA cL_law 9 yL_law.cls 524) (hl : l.stackTraces = false) (hret : meth.sig.returnType = ret) (hnm : True) (htab : True) {k28 : Option Nat → Option Nat → Option Nat → Option Nat → Option Nat → Int32 → zM} (h28 : ∀ (a0 : Option Nat) (a1 : Option Nat) (a2 : Option Nat) (a3 : Option Nat) (a4 : Option Nat) (a5 : Int32) , zW p l e R s m args below meth c E D tA 9 k0 (k28 a0 a1 a2 a3 a4 a5) [(0, zP a0), (1, zP a1), (2, zP a2), (3, zP a3), (4, zP a4), (5, zI a5)] 28 []) (a0 : Option Nat) (a1 : Option Nat) (a2 : Option Nat) (a3 : Option Nat) (a4 : Option Nat) (a5 : Int32) : zW p l e R s m args below meth c E D tA 9 k0 (s_L_law_1783 E k28 a0 a1 a2 a3 a4 a5) [(0, zP a0), (1, zP a1), (2, zP a2), (3, zP a3), (4, zP a4), (5, zI a5)] 1783 [] := by
  unfold s_L_law_1783
  refine z_goto (pc := 1783) (tgt := 2702) x dL_law_1783 rfl ?_
  exact z_sub [0, 1, 2, 3, 4, 5] rfl (w_L_law_2702 x hl hret hnm htab h28 a0 a1 a2 a3 a4 a5)
def s_L_law_1841 (E : zE) (k28 : Option Nat → Option Nat → Option Nat → Option Nat → Option Nat → Int32 → zM) (a0 : Option Nat) (a1 : Option Nat) (a2 : Option Nat) (a3 : Option Nat) (a4 : Option Nat) (a5 : Int32) : zM := s_L_law_2702 E k28 a0 a1 a2 a3 a4 a5
theorem w_L_law_1841 (x : zCx p l R s m args meth c E D tA cL_law 9 yL_law.cls 524) (hl : l.stackTraces = false) (hret : meth.sig.returnType = ret) (hnm : True) (htab : True) {k28 : Option Nat → Option Nat → Option Nat → Option Nat → Option Nat → Int32 → zM} (h28 : ∀ (a0 : Option Nat) (a1 : Option Nat) (a2 : Option Nat) (a3 : Option Nat) (a4 : Option Nat) (a5 : Int32) , zW p l e R s m args below meth c E D tA 9 k0 (k28 a0 a1 a2 a3 a4 a5) [(0, zP a0), (1, zP a1), (2, zP a2), (3, zP a3), (4, zP a4), (5, zI a5)] 28 []) (a0 : Option Nat) (a1 : Option Nat) (a2 : Option Nat) (a3 : Option Nat) (a4 : Option Nat) (a5 : Int32) : zW p l e R s m args below meth c E D tA 9 k0 (s_L_law_1841 E k28 a0 a1 a2 a3 a4 a5) [(0, zP a0), (1, zP a1), (2, zP a2), (3, zP a3), (4, zP a4), (5, zI a5)] 1841 [] := by
  unfold s_L_law_1841
  refine z_goto (pc := 1841) (tgt := 2702) x dL_law_1841 rfl ?_
  exact z_sub [0, 1, 2, 3, 4, 5] rfl (w_L_law_2702 x hl hret hnm htab h28 a0 a1 a2 a3 a4 a5)
def s_L_law_1899 (E : zE) (k28 : Option Nat → Option Nat → Option Nat → Option Nat → Option Nat → Int32 → zM) (a0 : Option Nat) (a1 : Option Nat) (a2 : Option Nat) (a3 : Option Nat) (a4 : Option Nat) (a5 : Int32) : zM := s_L_law_2702 E k28 a0 a1 a2 a3 a4 a5
theorem w_L_law_1899 (x : zCx p l R s m args meth c E D tA cL_law 9 yL_law.cls 524) (hl : l.stackTraces = false) (hret : meth.sig.returnType = ret) (hnm : True) (htab : True) {k28 : Option Nat → Option Nat → Option Nat → Option Nat → Option Nat → Int32 → zM} (h28 : ∀ (a0 : Option Nat) (a1 : Option Nat) (a2 : Option Nat) (a3 : Option Nat) (a4 : Option Nat) (a5 : Int32) , zW p l e R s m args below meth c E D tA 9 k0 (k28 a0 a1 a2 a3 a4 a5) [(0, zP a0), (1, zP a1), (2, zP a2), (3, zP a3), (4, zP a4), (5, zI a5)] 28 []) (a0 : Option Nat) (a1 : Option Nat) (a2 : Option Nat) (a3 : Option Nat) (a4 : Option Nat) (a5 : Int32) : zW p l e R s m args below meth c E D tA 9 k0 (s_L_law_1899 E k28 a0 a1 a2 a3 a4 a5) [(0, zP a0), (1, zP a1), (2, zP a2), (3, zP a3), (4, zP a4), (5, zI a5)] 1899 [] := by
  unfold s_L_law_1899
  refine z_goto (pc := 1899) (tgt := 2702) x dL_law_1899 rfl ?_
  exact z_sub [0, 1, 2, 3, 4, 5] rfl (w_L_law_2702 x hl hret hnm htab h28 a0 a1 a2 a3 a4 a5)
def s_L_law_1978 (E : zE) (k28 : Option Nat → Option Nat → Option Nat → Option Nat → Option Nat → Int32 → zM) (a0 : Option Nat) (a1 : Option Nat) (a2 : Option Nat) (a3 : Option Nat) (a4 : Option Nat) (a5 : Int32) : zM := s_L_law_2702 E k28 a0 a1 a2 a3 a4 a5
theorem w_L_law_1978 (x : zCx p l R s m args meth c E D tA cL_law 9 yL_law.cls 524) (hl : l.stackTraces = false) (hret : meth.sig.returnType = ret) (hnm : True) (htab : True) {k28 : Option Nat → Option Nat → Option Nat → Option Nat → Option Nat → Int32 → zM} (h28 : ∀ (a0 : Option Nat) (a1 : Option Nat) (a2 : Option Nat) (a3 : Option Nat) (a4 : Option Nat) (a5 : Int32) , zW p l e R s m args below meth c E D tA 9 k0 (k28 a0 a1 a2 a3 a4 a5) [(0, zP a0), (1, zP a1), (2, zP a2), (3, zP a3), (4, zP a4), (5, zI a5)] 28 []) (a0 : Option Nat) (a1 : Option Nat) (a2 : Option Nat) (a3 : Option Nat) (a4 : Option Nat) (a5 : Int32) : zW p l e R s m args below meth c E D tA 9 k0 (s_L_law_1978 E k28 a0 a1 a2 a3 a4 a5) [(0, zP a0), (1, zP a1), (2, zP a2), (3, zP a3), (4, zP a4), (5, zI a5)] 1978 [] := by
  unfold s_L_law_1978
  refine z_goto (pc := 1978) (tgt := 2702) x dL_law_1978 rfl ?_
  exact z_sub [0, 1, 2, 3, 4, 5] rfl (w_L_law_2702 x hl hret hnm htab h28 a0 a1 a2 a3 a4 a5)
def s_L_law_1972 (E : zE) (k28 : Option Nat → Option Nat → Option Nat → Option Nat → Option Nat → Int32 → zM) (a0 : Option Nat) (a1 : Option Nat) (a2 : Option Nat) (a3 : Option Nat) (a4 : Option Nat) (a5 : Int32) (b0 : Int64) (b1 : Int64) : zM := if (lg_cmp b0 b1) = 0 then (s_L_law_1978 E k28 a0 a1 a2 a3 a4 a5) else (zRetN .boolean (0 : Int32))
theorem w_L_law_1972 (x : zCx p l R s m args meth c E D tA cL_law 9 yL_law.cls 524) (hl : l.stackTraces = false) (hret : meth.sig.returnType = ret) (hnm : True) (htab : True) {k28 : Option Nat → Option Nat → Option Nat → Option Nat → Option Nat → Int32 → zM} (h28 : ∀ (a0 : Option Nat) (a1 : Option Nat) (a2 : Option Nat) (a3 : Option Nat) (a4 : Option Nat) (a5 : Int32) , zW p l e R s m args below meth c E D tA 9 k0 (k28 a0 a1 a2 a3 a4 a5) [(0, zP a0), (1, zP a1), (2, zP a2), (3, zP a3), (4, zP a4), (5, zI a5)] 28 []) (a0 : Option Nat) (a1 : Option Nat) (a2 : Option Nat) (a3 : Option Nat) (a4 : Option Nat) (a5 : Int32) (b0 : Int64) (b1 : Int64) : zW p l e R s m args below meth c E D tA 9 k0 (s_L_law_1972 E k28 a0 a1 a2 a3 a4 a5 b0 b1) [(0, zP a0), (1, zP a1), (2, zP a2), (3, zP a3), (4, zP a4), (5, zI a5)] 1972 [zL b1, zL b0] := by
  unfold s_L_law_1972
  refine z_lcmp (pc := 1972) x dL_law_1972 ?_
  refine z_if_eq (pc := 1973) (tgt := 1978) x dL_law_1973 rfl (fun _ => ?_) (fun _ => ?_)
  · exact z_sub [0, 1, 2, 3, 4, 5] rfl (w_L_law_1978 x hl hret hnm htab h28 a0 a1 a2 a3 a4 a5)
  · refine z_iconst (pc := 1976) x (v := (0 : Int32)) dL_law_1976 rfl ?_
    exact z_zret (pc := 1977) x hret dL_law_1977
def s_L_law_2035 (E : zE) (k28 : Option Nat → Option Nat → Option Nat → Option Nat → Option Nat → Int32 → zM) (a0 : Option Nat) (a1 : Option Nat) (a2 : Option Nat) (a3 : Option Nat) (a4 : Option Nat) (a5 : Int32) : zM := s_L_law_2702 E k28 a0 a1 a2 a3 a4 a5
theorem w_L_law_2035 (x : zCx p l R s m args meth c E D tA cL_law 9 yL_law.cls 524) (hl : l.stackTraces = false) (hret : meth.sig.returnType = ret) (hnm : True) (htab : True) {k28 : Option Nat → Option Nat → Option Nat → Option Nat → Option Nat → Int32 → zM} (h28 : ∀ (a0 : Option Nat) (a1 : Option Nat) (a2 : Option Nat) (a3 : Option Nat) (a4 : Option Nat) (a5 : Int32) , zW p l e R s m args below meth c E D tA 9 k0 (k28 a0 a1 a2 a3 a4 a5) [(0, zP a0), (1, zP a1), (2, zP a2), (3, zP a3), (4, zP a4), (5, zI a5)] 28 []) (a0 : Option Nat) (a1 : Option Nat) (a2 : Option Nat) (a3 : Option Nat) (a4 : Option Nat) (a5 : Int32) : zW p l e R s m args below meth c E D tA 9 k0 (s_L_law_2035 E k28 a0 a1 a2 a3 a4 a5) [(0, zP a0), (1, zP a1), (2, zP a2), (3, zP a3), (4, zP a4), (5, zI a5)] 2035 [] := by
  unfold s_L_law_2035
  refine z_goto (pc := 2035) (tgt := 2702) x dL_law_2035 rfl ?_
  exact z_sub [0, 1, 2, 3, 4, 5] rfl (w_L_law_2702 x hl hret hnm htab h28 a0 a1 a2 a3 a4 a5)
def s_L_law_2079 (E : zE) (k28 : Option Nat → Option Nat → Option Nat → Option Nat → Option Nat → Int32 → zM) (a0 : Option Nat) (a1 : Option Nat) (a2 : Option Nat) (a3 : Option Nat) (a4 : Option Nat) (a5 : Int32) : zM := s_L_law_2702 E k28 a0 a1 a2 a3 a4 a5
theorem w_L_law_2079 (x : zCx p l R s m args meth c E D tA cL_law 9 yL_law.cls 524) (hl : l.stackTraces = false) (hret : meth.sig.returnType = ret) (hnm : True) (htab : True) {k28 : Option Nat → Option Nat → Option Nat → Option Nat → Option Nat → Int32 → zM} (h28 : ∀ (a0 : Option Nat) (a1 : Option Nat) (a2 : Option Nat) (a3 : Option Nat) (a4 : Option Nat) (a5 : Int32) , zW p l e R s m args below meth c E D tA 9 k0 (k28 a0 a1 a2 a3 a4 a5) [(0, zP a0), (1, zP a1), (2, zP a2), (3, zP a3), (4, zP a4), (5, zI a5)] 28 []) (a0 : Option Nat) (a1 : Option Nat) (a2 : Option Nat) (a3 : Option Nat) (a4 : Option Nat) (a5 : Int32) : zW p l e R s m args below meth c E D tA 9 k0 (s_L_law_2079 E k28 a0 a1 a2 a3 a4 a5) [(0, zP a0), (1, zP a1), (2, zP a2), (3, zP a3), (4, zP a4), (5, zI a5)] 2079 [] := by
  unfold s_L_law_2079
  refine z_goto (pc := 2079) (tgt := 2702) x dL_law_2079 rfl ?_
  exact z_sub [0, 1, 2, 3, 4, 5] rfl (w_L_law_2702 x hl hret hnm htab h28 a0 a1 a2 a3 a4 a5)
def s_L_law_2144 (E : zE) (k28 : Option Nat → Option Nat → Option Nat → Option Nat → Option Nat → Int32 → zM) (a0 : Option Nat) (a1 : Option Nat) (a2 : Option Nat) (a3 : Option Nat) (a4 : Option Nat) (a5 : Int32) : zM := s_L_law_2702 E k28 a0 a1 a2 a3 a4 a5
theorem w_L_law_2144 (x : zCx p l R s m args meth c E D tA cL_law 9 yL_law.cls 524) (hl : l.stackTraces = false) (hret : meth.sig.returnType = ret) (hnm : True) (htab : True) {k28 : Option Nat → Option Nat → Option Nat → Option Nat → Option Nat → Int32 → zM} (h28 : ∀ (a0 : Option Nat) (a1 : Option Nat) (a2 : Option Nat) (a3 : Option Nat) (a4 : Option Nat) (a5 : Int32) , zW p l e R s m args below meth c E D tA 9 k0 (k28 a0 a1 a2 a3 a4 a5) [(0, zP a0), (1, zP a1), (2, zP a2), (3, zP a3), (4, zP a4), (5, zI a5)] 28 []) (a0 : Option Nat) (a1 : Option Nat) (a2 : Option Nat) (a3 : Option Nat) (a4 : Option Nat) (a5 : Int32) : zW p l e R s m args below meth c E D tA 9 k0 (s_L_law_2144 E k28 a0 a1 a2 a3 a4 a5) [(0, zP a0), (1, zP a1), (2, zP a2), (3, zP a3), (4, zP a4), (5, zI a5)] 2144 [] := by
  unfold s_L_law_2144
  refine z_goto (pc := 2144) (tgt := 2702) x dL_law_2144 rfl ?_
  exact z_sub [0, 1, 2, 3, 4, 5] rfl (w_L_law_2702 x hl hret hnm htab h28 a0 a1 a2 a3 a4 a5)
def s_L_law_2210 (E : zE) (k28 : Option Nat → Option Nat → Option Nat → Option Nat → Option Nat → Int32 → zM) (a0 : Option Nat) (a1 : Option Nat) (a2 : Option Nat) (a3 : Option Nat) (a4 : Option Nat) (a5 : Int32) : zM := s_L_law_2702 E k28 a0 a1 a2 a3 a4 a5
theorem w_L_law_2210 (x : zCx p l R s m args meth c E D tA cL_law 9 yL_law.cls 524) (hl : l.stackTraces = false) (hret : meth.sig.returnType = ret) (hnm : True) (htab : True) {k28 : Option Nat → Option Nat → Option Nat → Option Nat → Option Nat → Int32 → zM} (h28 : ∀ (a0 : Option Nat) (a1 : Option Nat) (a2 : Option Nat) (a3 : Option Nat) (a4 : Option Nat) (a5 : Int32) , zW p l e R s m args below meth c E D tA 9 k0 (k28 a0 a1 a2 a3 a4 a5) [(0, zP a0), (1, zP a1), (2, zP a2), (3, zP a3), (4, zP a4), (5, zI a5)] 28 []) (a0 : Option Nat) (a1 : Option Nat) (a2 : Option Nat) (a3 : Option Nat) (a4 : Option Nat) (a5 : Int32) : zW p l e R s m args below meth c E D tA 9 k0 (s_L_law_2210 E k28 a0 a1 a2 a3 a4 a5) [(0, zP a0), (1, zP a1), (2, zP a2), (3, zP a3), (4, zP a4), (5, zI a5)] 2210 [] := by
  unfold s_L_law_2210
  refine z_goto (pc := 2210) (tgt := 2702) x dL_law_2210 rfl ?_
  exact z_sub [0, 1, 2, 3, 4, 5] rfl (w_L_law_2702 x hl hret hnm htab h28 a0 a1 a2 a3 a4 a5)
def s_L_law_2281 (E : zE) (k28 : Option Nat → Option Nat → Option Nat → Option Nat → Option Nat → Int32 → zM) (a0 : Option Nat) (a1 : Option Nat) (a2 : Option Nat) (a3 : Option Nat) (a4 : Option Nat) (a5 : Int32) : zM := s_L_law_2702 E k28 a0 a1 a2 a3 a4 a5
theorem w_L_law_2281 (x : zCx p l R s m args meth c E D tA cL_law 9 yL_law.cls 524) (hl : l.stackTraces = false) (hret : meth.sig.returnType = ret) (hnm : True) (htab : True) {k28 : Option Nat → Option Nat → Option Nat → Option Nat → Option Nat → Int32 → zM} (h28 : ∀ (a0 : Option Nat) (a1 : Option Nat) (a2 : Option Nat) (a3 : Option Nat) (a4 : Option Nat) (a5 : Int32) , zW p l e R s m args below meth c E D tA 9 k0 (k28 a0 a1 a2 a3 a4 a5) [(0, zP a0), (1, zP a1), (2, zP a2), (3, zP a3), (4, zP a4), (5, zI a5)] 28 []) (a0 : Option Nat) (a1 : Option Nat) (a2 : Option Nat) (a3 : Option Nat) (a4 : Option Nat) (a5 : Int32) : zW p l e R s m args below meth c E D tA 9 k0 (s_L_law_2281 E k28 a0 a1 a2 a3 a4 a5) [(0, zP a0), (1, zP a1), (2, zP a2), (3, zP a3), (4, zP a4), (5, zI a5)] 2281 [] := by
  unfold s_L_law_2281
  refine z_goto (pc := 2281) (tgt := 2702) x dL_law_2281 rfl ?_
  exact z_sub [0, 1, 2, 3, 4, 5] rfl (w_L_law_2702 x hl hret hnm htab h28 a0 a1 a2 a3 a4 a5)
def s_L_law_2325 (E : zE) (k28 : Option Nat → Option Nat → Option Nat → Option Nat → Option Nat → Int32 → zM) (a0 : Option Nat) (a1 : Option Nat) (a2 : Option Nat) (a3 : Option Nat) (a4 : Option Nat) (a5 : Int32) : zM := s_L_law_2702 E k28 a0 a1 a2 a3 a4 a5
theorem w_L_law_2325 (x : zCx p l R s m args meth c E D tA cL_law 9 yL_law.cls 524) (hl : l.stackTraces = false) (hret : meth.sig.returnType = ret) (hnm : True) (htab : True) {k28 : Option Nat → Option Nat → Option Nat → Option Nat → Option Nat → Int32 → zM} (h28 : ∀ (a0 : Option Nat) (a1 : Option Nat) (a2 : Option Nat) (a3 : Option Nat) (a4 : Option Nat) (a5 : Int32) , zW p l e R s m args below meth c E D tA 9 k0 (k28 a0 a1 a2 a3 a4 a5) [(0, zP a0), (1, zP a1), (2, zP a2), (3, zP a3), (4, zP a4), (5, zI a5)] 28 []) (a0 : Option Nat) (a1 : Option Nat) (a2 : Option Nat) (a3 : Option Nat) (a4 : Option Nat) (a5 : Int32) : zW p l e R s m args below meth c E D tA 9 k0 (s_L_law_2325 E k28 a0 a1 a2 a3 a4 a5) [(0, zP a0), (1, zP a1), (2, zP a2), (3, zP a3), (4, zP a4), (5, zI a5)] 2325 [] := by
  unfold s_L_law_2325
  refine z_goto (pc := 2325) (tgt := 2702) x dL_law_2325 rfl ?_
  exact z_sub [0, 1, 2, 3, 4, 5] rfl (w_L_law_2702 x hl hret hnm htab h28 a0 a1 a2 a3 a4 a5)
def s_L_law_2369 (E : zE) (k28 : Option Nat → Option Nat → Option Nat → Option Nat → Option Nat → Int32 → zM) (a0 : Option Nat) (a1 : Option Nat) (a2 : Option Nat) (a3 : Option Nat) (a4 : Option Nat) (a5 : Int32) : zM := s_L_law_2702 E k28 a0 a1 a2 a3 a4 a5
theorem w_L_law_2369 (x : zCx p l R s m args meth c E D tA cL_law 9 yL_law.cls 524) (hl : l.stackTraces = false) (hret : meth.sig.returnType = ret) (hnm : True) (htab : True) {k28 : Option Nat → Option Nat → Option Nat → Option Nat → Option Nat → Int32 → zM} (h28 : ∀ (a0 : Option Nat) (a1 : Option Nat) (a2 : Option Nat) (a3 : Option Nat) (a4 : Option Nat) (a5 : Int32) , zW p l e R s m args below meth c E D tA 9 k0 (k28 a0 a1 a2 a3 a4 a5) [(0, zP a0), (1, zP a1), (2, zP a2), (3, zP a3), (4, zP a4), (5, zI a5)] 28 []) (a0 : Option Nat) (a1 : Option Nat) (a2 : Option Nat) (a3 : Option Nat) (a4 : Option Nat) (a5 : Int32) : zW p l e R s m args below meth c E D tA 9 k0 (s_L_law_2369 E k28 a0 a1 a2 a3 a4 a5) [(0, zP a0), (1, zP a1), (2, zP a2), (3, zP a3), (4, zP a4), (5, zI a5)] 2369 [] := by
  unfold s_L_law_2369
  refine z_goto (pc := 2369) (tgt := 2702) x dL_law_2369 rfl ?_
  exact z_sub [0, 1, 2, 3, 4, 5] rfl (w_L_law_2702 x hl hret hnm htab h28 a0 a1 a2 a3 a4 a5)
def s_L_law_2413 (E : zE) (k28 : Option Nat → Option Nat → Option Nat → Option Nat → Option Nat → Int32 → zM) (a0 : Option Nat) (a1 : Option Nat) (a2 : Option Nat) (a3 : Option Nat) (a4 : Option Nat) (a5 : Int32) : zM := s_L_law_2702 E k28 a0 a1 a2 a3 a4 a5
theorem w_L_law_2413 (x : zCx p l R s m args meth c E D tA cL_law 9 yL_law.cls 524) (hl : l.stackTraces = false) (hret : meth.sig.returnType = ret) (hnm : True) (htab : True) {k28 : Option Nat → Option Nat → Option Nat → Option Nat → Option Nat → Int32 → zM} (h28 : ∀ (a0 : Option Nat) (a1 : Option Nat) (a2 : Option Nat) (a3 : Option Nat) (a4 : Option Nat) (a5 : Int32) , zW p l e R s m args below meth c E D tA 9 k0 (k28 a0 a1 a2 a3 a4 a5) [(0, zP a0), (1, zP a1), (2, zP a2), (3, zP a3), (4, zP a4), (5, zI a5)] 28 []) (a0 : Option Nat) (a1 : Option Nat) (a2 : Option Nat) (a3 : Option Nat) (a4 : Option Nat) (a5 : Int32) : zW p l e R s m args below meth c E D tA 9 k0 (s_L_law_2413 E k28 a0 a1 a2 a3 a4 a5) [(0, zP a0), (1, zP a1), (2, zP a2), (3, zP a3), (4, zP a4), (5, zI a5)] 2413 [] := by
  unfold s_L_law_2413
  refine z_goto (pc := 2413) (tgt := 2702) x dL_law_2413 rfl ?_
  exact z_sub [0, 1, 2, 3, 4, 5] rfl (w_L_law_2702 x hl hret hnm htab h28 a0 a1 a2 a3 a4 a5)
def s_L_law_2469 (E : zE) (k28 : Option Nat → Option Nat → Option Nat → Option Nat → Option Nat → Int32 → zM) (a0 : Option Nat) (a1 : Option Nat) (a2 : Option Nat) (a3 : Option Nat) (a4 : Option Nat) (a5 : Int32) : zM := s_L_law_2702 E k28 a0 a1 a2 a3 a4 a5
theorem w_L_law_2469 (x : zCx p l R s m args meth c E D tA cL_law 9 yL_law.cls 524) (hl : l.stackTraces = false) (hret : meth.sig.returnType = ret) (hnm : True) (htab : True) {k28 : Option Nat → Option Nat → Option Nat → Option Nat → Option Nat → Int32 → zM} (h28 : ∀ (a0 : Option Nat) (a1 : Option Nat) (a2 : Option Nat) (a3 : Option Nat) (a4 : Option Nat) (a5 : Int32) , zW p l e R s m args below meth c E D tA 9 k0 (k28 a0 a1 a2 a3 a4 a5) [(0, zP a0), (1, zP a1), (2, zP a2), (3, zP a3), (4, zP a4), (5, zI a5)] 28 []) (a0 : Option Nat) (a1 : Option Nat) (a2 : Option Nat) (a3 : Option Nat) (a4 : Option Nat) (a5 : Int32) : zW p l e R s m args below meth c E D tA 9 k0 (s_L_law_2469 E k28 a0 a1 a2 a3 a4 a5) [(0, zP a0), (1, zP a1), (2, zP a2), (3, zP a3), (4, zP a4), (5, zI a5)] 2469 [] := by
  unfold s_L_law_2469
  refine z_goto (pc := 2469) (tgt := 2702) x dL_law_2469 rfl ?_
  exact z_sub [0, 1, 2, 3, 4, 5] rfl (w_L_law_2702 x hl hret hnm htab h28 a0 a1 a2 a3 a4 a5)
def s_L_law_2551 (E : zE) (k28 : Option Nat → Option Nat → Option Nat → Option Nat → Option Nat → Int32 → zM) (a0 : Option Nat) (a1 : Option Nat) (a2 : Option Nat) (a3 : Option Nat) (a4 : Option Nat) (a5 : Int32) : zM := s_L_law_2702 E k28 a0 a1 a2 a3 a4 a5
theorem w_L_law_2551 (x : zCx p l R s m args meth c E D tA cL_law 9 yL_law.cls 524) (hl : l.stackTraces = false) (hret : meth.sig.returnType = ret) (hnm : True) (htab : True) {k28 : Option Nat → Option Nat → Option Nat → Option Nat → Option Nat → Int32 → zM} (h28 : ∀ (a0 : Option Nat) (a1 : Option Nat) (a2 : Option Nat) (a3 : Option Nat) (a4 : Option Nat) (a5 : Int32) , zW p l e R s m args below meth c E D tA 9 k0 (k28 a0 a1 a2 a3 a4 a5) [(0, zP a0), (1, zP a1), (2, zP a2), (3, zP a3), (4, zP a4), (5, zI a5)] 28 []) (a0 : Option Nat) (a1 : Option Nat) (a2 : Option Nat) (a3 : Option Nat) (a4 : Option Nat) (a5 : Int32) : zW p l e R s m args below meth c E D tA 9 k0 (s_L_law_2551 E k28 a0 a1 a2 a3 a4 a5) [(0, zP a0), (1, zP a1), (2, zP a2), (3, zP a3), (4, zP a4), (5, zI a5)] 2551 [] := by
  unfold s_L_law_2551
  refine z_goto (pc := 2551) (tgt := 2702) x dL_law_2551 rfl ?_
  exact z_sub [0, 1, 2, 3, 4, 5] rfl (w_L_law_2702 x hl hret hnm htab h28 a0 a1 a2 a3 a4 a5)
def s_L_law_2620 (E : zE) (k28 : Option Nat → Option Nat → Option Nat → Option Nat → Option Nat → Int32 → zM) (a0 : Option Nat) (a1 : Option Nat) (a2 : Option Nat) (a3 : Option Nat) (a4 : Option Nat) (a5 : Int32) : zM := s_L_law_2702 E k28 a0 a1 a2 a3 a4 a5
theorem w_L_law_2620 (x : zCx p l R s m args meth c E D tA cL_law 9 yL_law.cls 524) (hl : l.stackTraces = false) (hret : meth.sig.returnType = ret) (hnm : True) (htab : True) {k28 : Option Nat → Option Nat → Option Nat → Option Nat → Option Nat → Int32 → zM} (h28 : ∀ (a0 : Option Nat) (a1 : Option Nat) (a2 : Option Nat) (a3 : Option Nat) (a4 : Option Nat) (a5 : Int32) , zW p l e R s m args below meth c E D tA 9 k0 (k28 a0 a1 a2 a3 a4 a5) [(0, zP a0), (1, zP a1), (2, zP a2), (3, zP a3), (4, zP a4), (5, zI a5)] 28 []) (a0 : Option Nat) (a1 : Option Nat) (a2 : Option Nat) (a3 : Option Nat) (a4 : Option Nat) (a5 : Int32) : zW p l e R s m args below meth c E D tA 9 k0 (s_L_law_2620 E k28 a0 a1 a2 a3 a4 a5) [(0, zP a0), (1, zP a1), (2, zP a2), (3, zP a3), (4, zP a4), (5, zI a5)] 2620 [] := by
  unfold s_L_law_2620
  refine z_goto (pc := 2620) (tgt := 2702) x dL_law_2620 rfl ?_
  exact z_sub [0, 1, 2, 3, 4, 5] rfl (w_L_law_2702 x hl hret hnm htab h28 a0 a1 a2 a3 a4 a5)
def s_L_law_2664 (E : zE) (k28 : Option Nat → Option Nat → Option Nat → Option Nat → Option Nat → Int32 → zM) (a0 : Option Nat) (a1 : Option Nat) (a2 : Option Nat) (a3 : Option Nat) (a4 : Option Nat) (a5 : Int32) : zM := s_L_law_2702 E k28 a0 a1 a2 a3 a4 a5
theorem w_L_law_2664 (x : zCx p l R s m args meth c E D tA cL_law 9 yL_law.cls 524) (hl : l.stackTraces = false) (hret : meth.sig.returnType = ret) (hnm : True) (htab : True) {k28 : Option Nat → Option Nat → Option Nat → Option Nat → Option Nat → Int32 → zM} (h28 : ∀ (a0 : Option Nat) (a1 : Option Nat) (a2 : Option Nat) (a3 : Option Nat) (a4 : Option Nat) (a5 : Int32) , zW p l e R s m args below meth c E D tA 9 k0 (k28 a0 a1 a2 a3 a4 a5) [(0, zP a0), (1, zP a1), (2, zP a2), (3, zP a3), (4, zP a4), (5, zI a5)] 28 []) (a0 : Option Nat) (a1 : Option Nat) (a2 : Option Nat) (a3 : Option Nat) (a4 : Option Nat) (a5 : Int32) : zW p l e R s m args below meth c E D tA 9 k0 (s_L_law_2664 E k28 a0 a1 a2 a3 a4 a5) [(0, zP a0), (1, zP a1), (2, zP a2), (3, zP a3), (4, zP a4), (5, zI a5)] 2664 [] := by
  unfold s_L_law_2664
  refine z_goto (pc := 2664) (tgt := 2702) x dL_law_2664 rfl ?_
  exact z_sub [0, 1, 2, 3, 4, 5] rfl (w_L_law_2702 x hl hret hnm htab h28 a0 a1 a2 a3 a4 a5)
def s_L_law_28 (E : zE) : Nat → Option Nat → Option Nat → Option Nat → Option Nat → Option Nat → Int32 → zM
  | 0, _, _, _, _, _, _ => zFail
  | n + 1, a0, a1, a2, a3, a4, a5 => zLen a0 (fun v31 => if (v31 - (5 : Int32)) < a5 then (zRetN .boolean (1 : Int32)) else (zGaI 0 a0 a5 (fun v40 => if (v40 &&& (63 : Int32)) = (0 : Int32) then (zGaI 0 a0 (a5 + (1 : Int32)) (fun v238 => zGaI 0 a0 (a5 + (2 : Int32)) (fun v245 => zGaI 0 a0 (a5 + (3 : Int32)) (fun v251 => zC (s_X0_addFact E a1 (((v238).toUInt32 % 65536).toInt32) v245 v251 a3) (fun _ => zFail) (zKI (fun v253 => zGaI 0 a0 (a5 + (1 : Int32)) (fun v264 => zGaI 0 a0 (a5 + (2 : Int32)) (fun v271 => zGaI 0 a0 (a5 + (3 : Int32)) (fun v277 => zC (zRv a2 [(34, fun b => s_X6_addFact E (some b) (((v264).toUInt32 % 65536).toInt32) v271 v277)]) (fun _ => zFail) (zKI (fun v278 => zC (zRv a2 [(34, fun b => s_X6_thrown E (some b))]) (fun _ => zFail) (zKI (fun v284 => if v284 = v253 then (if v253 = 0 then (zGaL 3 a3 (0 : Int32) (fun v301 => if (lg_cmp v301 ((v278).toInt64)) = 0 then (s_L_law_311 E (s_L_law_28 E n) a0 a1 a2 a3 a4 a5) else (zRetN .boolean (0 : Int32)))) else (s_L_law_311 E (s_L_law_28 E n) a0 a1 a2 a3 a4 a5)) else (zRetN .boolean (0 : Int32))))))))))))))) else (if (v40 &&& (63 : Int32)) = (1 : Int32) then (zGaI 0 a0 (a5 + (1 : Int32)) (fun v320 => zGaI 0 a0 (a5 + (2 : Int32)) (fun v327 => zGaI 0 a0 (a5 + (3 : Int32)) (fun v333 => zC (s_X0_takeFact E a1 (((v320).toUInt32 % 65536).toInt32) v327 v333 a3) (fun _ => zFail) (zKI (fun v335 => zGaI 0 a0 (a5 + (1 : Int32)) (fun v346 => zGaI 0 a0 (a5 + (2 : Int32)) (fun v353 => zGaI 0 a0 (a5 + (3 : Int32)) (fun v359 => zC (zRv a2 [(34, fun b => s_X6_takeFact E (some b) (((v346).toUInt32 % 65536).toInt32) v353 v359)]) (fun _ => zFail) (zKI (fun v360 => zC (zRv a2 [(34, fun b => s_X6_thrown E (some b))]) (fun _ => zFail) (zKI (fun v366 => if v366 = v335 then (if v335 = 0 then (zGaL 3 a3 (0 : Int32) (fun v383 => if (lg_cmp v383 ((v360).toInt64)) = 0 then (s_L_law_393 E (s_L_law_28 E n) a0 a1 a2 a3 a4 a5) else (zRetN .boolean (0 : Int32)))) else (s_L_law_393 E (s_L_law_28 E n) a0 a1 a2 a3 a4 a5)) else (zRetN .boolean (0 : Int32))))))))))))))) else (if (v40 &&& (63 : Int32)) = (2 : Int32) then (zGaI 0 a0 (a5 + (1 : Int32)) (fun v402 => zC (s_X0_dropRule E a1 v402 a3) (fun _ => zFail) (zKI (fun v404 => zGaI 0 a0 (a5 + (1 : Int32)) (fun v415 => zC (zRv a2 [(34, fun b => s_X6_dropRule E (some b) v415)]) (fun _ => zFail) (zKI (fun v416 => zC (zRv a2 [(34, fun b => s_X6_thrown E (some b))]) (fun _ => zFail) (zKI (fun v422 => if v422 = v404 then (if v404 = 0 then (zGaL 3 a3 (0 : Int32) (fun v439 => if (lg_cmp v439 ((v416).toInt64)) = 0 then (s_L_law_449 E (s_L_law_28 E n) a0 a1 a2 a3 a4 a5) else (zRetN .boolean (0 : Int32)))) else (s_L_law_449 E (s_L_law_28 E n) a0 a1 a2 a3 a4 a5)) else (zRetN .boolean (0 : Int32))))))))))) else (if (v40 &&& (63 : Int32)) = (3 : Int32) then (zC (zRv a1 [(16, fun b => s_X1_givenCount E (some b))]) (fun _ => zFail) (zKI (fun v453 => zC (zRv a2 [(34, fun b => s_X6_givenCount E (some b))]) (fun _ => zFail) (zKI (fun v457 => if v453 = v457 then (s_L_law_2702 E (s_L_law_28 E n) a0 a1 a2 a3 a4 a5) else (zRetN .boolean (0 : Int32))))))) else (if (v40 &&& (63 : Int32)) = (4 : Int32) then (zGaI 0 a0 (a5 + (1 : Int32)) (fun v471 => zGaI 0 a0 (a5 + (2 : Int32)) (fun v478 => zGaI 0 a0 (a5 + (3 : Int32)) (fun v484 => zC (s_X0_isGiven E a1 (((v471).toUInt32 % 65536).toInt32) v478 v484 a3) (fun _ => zFail) (zKI (fun v486 => zGaI 0 a0 (a5 + (1 : Int32)) (fun v497 => zGaI 0 a0 (a5 + (2 : Int32)) (fun v504 => zGaI 0 a0 (a5 + (3 : Int32)) (fun v510 => zC (zRv a2 [(34, fun b => s_X6_isGiven E (some b) (((v497).toUInt32 % 65536).toInt32) v504 v510)]) (fun _ => zFail) (zKI (fun v511 => zC (zRv a2 [(34, fun b => s_X6_thrown E (some b))]) (fun _ => zFail) (zKI (fun v517 => if v517 = v486 then (if v486 = 0 then (zGaL 3 a3 (0 : Int32) (fun v534 => if v511 = 0 then (s_L_law_545 E (s_L_law_28 E n) a0 a1 a2 a3 a4 a5 v534 (0 : Int64)) else (s_L_law_545 E (s_L_law_28 E n) a0 a1 a2 a3 a4 a5 v534 (1 : Int64)))) else (s_L_law_551 E (s_L_law_28 E n) a0 a1 a2 a3 a4 a5)) else (zRetN .boolean (0 : Int32))))))))))))))) else (if (v40 &&& (63 : Int32)) = (5 : Int32) then (zGaI 0 a0 (a5 + (1 : Int32)) (fun v560 => zGaI 0 a0 (a5 + (2 : Int32)) (fun v567 => zGaI 0 a0 (a5 + (3 : Int32)) (fun v573 => zC (s_X0_isTrue E a1 (((v560).toUInt32 % 65536).toInt32) v567 v573 a3) (fun _ => zFail) (zKI (fun v575 => zGaI 0 a0 (a5 + (1 : Int32)) (fun v586 => zGaI 0 a0 (a5 + (2 : Int32)) (fun v593 => zGaI 0 a0 (a5 + (3 : Int32)) (fun v599 => zC (zRv a2 [(34, fun b => s_X6_isTrue E (some b) (((v586).toUInt32 % 65536).toInt32) v593 v599)]) (fun _ => zFail) (zKI (fun v600 => zC (zRv a2 [(34, fun b => s_X6_thrown E (some b))]) (fun _ => zFail) (zKI (fun v606 => if v606 = v575 then (if v575 = 0 then (zGaL 3 a3 (0 : Int32) (fun v623 => if v600 = 0 then (s_L_law_634 E (s_L_law_28 E n) a0 a1 a2 a3 a4 a5 v623 (0 : Int64)) else (s_L_law_634 E (s_L_law_28 E n) a0 a1 a2 a3 a4 a5 v623 (1 : Int64)))) else (s_L_law_640 E (s_L_law_28 E n) a0 a1 a2 a3 a4 a5)) else (zRetN .boolean (0 : Int32))))))))))))))) else (if (v40 &&& (63 : Int32)) = (6 : Int32) then (zGaI 0 a0 (a5 + (1 : Int32)) (fun v649 => zGaI 0 a0 (a5 + (2 : Int32)) (fun v656 => zGaI 0 a0 (a5 + (3 : Int32)) (fun v662 => zC (s_X0_isTrueByTrying E a1 (((v649).toUInt32 % 65536).toInt32) v656 v662 a3) (fun _ => zFail) (zKI (fun v664 => zGaI 0 a0 (a5 + (1 : Int32)) (fun v675 => zGaI 0 a0 (a5 + (2 : Int32)) (fun v682 => zGaI 0 a0 (a5 + (3 : Int32)) (fun v688 => zC (zRv a2 [(34, fun b => s_X6_isTrueByTrying E (some b) (((v675).toUInt32 % 65536).toInt32) v682 v688)]) (fun _ => zFail) (zKI (fun v689 => zC (zRv a2 [(34, fun b => s_X6_thrown E (some b))]) (fun _ => zFail) (zKI (fun v695 => if v695 = v664 then (if v664 = 0 then (zGaL 3 a3 (0 : Int32) (fun v712 => if v689 = 0 then (s_L_law_723 E (s_L_law_28 E n) a0 a1 a2 a3 a4 a5 v712 (0 : Int64)) else (s_L_law_723 E (s_L_law_28 E n) a0 a1 a2 a3 a4 a5 v712 (1 : Int64)))) else (s_L_law_729 E (s_L_law_28 E n) a0 a1 a2 a3 a4 a5)) else (zRetN .boolean (0 : Int32))))))))))))))) else (if (v40 &&& (63 : Int32)) = (7 : Int32) then (zGaI 0 a0 (a5 + (1 : Int32)) (fun v738 => zC (s_X0_trueCount E a1 (((v738).toUInt32 % 65536).toInt32) a3) (fun _ => zFail) (zKI (fun v741 => zGaI 0 a0 (a5 + (1 : Int32)) (fun v752 => zC (zRv a2 [(34, fun b => s_X6_trueCount E (some b) (((v752).toUInt32 % 65536).toInt32))]) (fun _ => zFail) (zKI (fun v754 => zC (zRv a2 [(34, fun b => s_X6_thrown E (some b))]) (fun _ => zFail) (zKI (fun v760 => if v760 = v741 then (if v741 = 0 then (zGaL 3 a3 (0 : Int32) (fun v777 => if (lg_cmp v777 ((v754).toInt64)) = 0 then (s_L_law_787 E (s_L_law_28 E n) a0 a1 a2 a3 a4 a5) else (zRetN .boolean (0 : Int32)))) else (s_L_law_787 E (s_L_law_28 E n) a0 a1 a2 a3 a4 a5)) else (zRetN .boolean (0 : Int32))))))))))) else (if (v40 &&& (63 : Int32)) = (8 : Int32) then (zC (zRv a1 [(16, fun b => s_X1_allTrue E (some b))]) (fun _ => zFail) (zKI (fun v791 => zC (zRv a2 [(34, fun b => s_X6_allTrue E (some b))]) (fun _ => zFail) (zKI (fun v795 => if v791 = v795 then (s_L_law_2702 E (s_L_law_28 E n) a0 a1 a2 a3 a4 a5) else (zRetN .boolean (0 : Int32))))))) else (if (v40 &&& (63 : Int32)) = (9 : Int32) then (zGaI 0 a0 (a5 + (1 : Int32)) (fun v809 => zGaI 0 a0 (a5 + (2 : Int32)) (fun v816 => zGaI 0 a0 (a5 + (3 : Int32)) (fun v822 => zC (s_X0_gainedWithout E a1 (((v809).toUInt32 % 65536).toInt32) v816 v822 a3) (fun _ => zFail) (zKI (fun v824 => zGaI 0 a0 (a5 + (1 : Int32)) (fun v835 => zGaI 0 a0 (a5 + (2 : Int32)) (fun v842 => zGaI 0 a0 (a5 + (3 : Int32)) (fun v848 => zC (zRv a2 [(34, fun b => s_X6_gainedWithout E (some b) (((v835).toUInt32 % 65536).toInt32) v842 v848)]) (fun _ => zFail) (zKI (fun v849 => zC (zRv a2 [(34, fun b => s_X6_thrown E (some b))]) (fun _ => zFail) (zKI (fun v855 => if v855 = v824 then (if v824 = 0 then (zGaL 3 a3 (0 : Int32) (fun v872 => if (lg_cmp v872 ((v849).toInt64)) = 0 then (s_L_law_882 E (s_L_law_28 E n) a0 a1 a2 a3 a4 a5) else (zRetN .boolean (0 : Int32)))) else (s_L_law_882 E (s_L_law_28 E n) a0 a1 a2 a3 a4 a5)) else (zRetN .boolean (0 : Int32))))))))))))))) else (if (v40 &&& (63 : Int32)) = (10 : Int32) then (zGaI 0 a0 (a5 + (1 : Int32)) (fun v891 => zGaI 0 a0 (a5 + (2 : Int32)) (fun v898 => zC (s_X0_constantAtRank E a1 (((v891).toUInt32 % 65536).toInt32) v898 a3) (fun _ => zFail) (zKI (fun v900 => zGaI 0 a0 (a5 + (1 : Int32)) (fun v911 => zGaI 0 a0 (a5 + (2 : Int32)) (fun v918 => zC (zRv a2 [(34, fun b => s_X6_constantAtRank E (some b) (((v911).toUInt32 % 65536).toInt32) v918)]) (fun _ => zFail) (zKI (fun v919 => zC (zRv a2 [(34, fun b => s_X6_thrown E (some b))]) (fun _ => zFail) (zKI (fun v925 => if v925 = v900 then (if v900 = 0 then (zGaL 3 a3 (0 : Int32) (fun v942 => if (lg_cmp v942 ((v919).toInt64)) = 0 then (s_L_law_952 E (s_L_law_28 E n) a0 a1 a2 a3 a4 a5) else (zRetN .boolean (0 : Int32)))) else (s_L_law_952 E (s_L_law_28 E n) a0 a1 a2 a3 a4 a5)) else (zRetN .boolean (0 : Int32))))))))))))) else (if (v40 &&& (63 : Int32)) = (11 : Int32) then (zGaI 0 a0 (a5 + (1 : Int32)) (fun v961 => zC (s_X0_greatest E a1 (((v961).toUInt32 % 65536).toInt32) a3) (fun _ => zFail) (zKI (fun v964 => zGaI 0 a0 (a5 + (1 : Int32)) (fun v975 => zC (zRv a2 [(34, fun b => s_X6_greatest E (some b) (((v975).toUInt32 % 65536).toInt32))]) (fun _ => zFail) (zKI (fun v977 => zC (zRv a2 [(34, fun b => s_X6_thrown E (some b))]) (fun _ => zFail) (zKI (fun v983 => if v983 = v964 then (if v964 = 0 then (zGaL 3 a3 (0 : Int32) (fun v1000 => if (lg_cmp v1000 ((v977).toInt64)) = 0 then (s_L_law_1010 E (s_L_law_28 E n) a0 a1 a2 a3 a4 a5) else (zRetN .boolean (0 : Int32)))) else (s_L_law_1010 E (s_L_law_28 E n) a0 a1 a2 a3 a4 a5)) else (zRetN .boolean (0 : Int32))))))))))) else (if (v40 &&& (63 : Int32)) = (12 : Int32) then (zGaI 0 a0 (a5 + (1 : Int32)) (fun v1019 => zGaI 0 a0 (a5 + (2 : Int32)) (fun v1026 => zGaI 0 a0 (a5 + (3 : Int32)) (fun v1032 => zC (s_X0_height E a1 (((v1019).toUInt32 % 65536).toInt32) v1026 v1032 a3) (fun _ => zFail) (zKI (fun v1034 => zGaI 0 a0 (a5 + (1 : Int32)) (fun v1045 => zGaI 0 a0 (a5 + (2 : Int32)) (fun v1052 => zGaI 0 a0 (a5 + (3 : Int32)) (fun v1058 => zC (zRv a2 [(34, fun b => s_X6_height E (some b) (((v1045).toUInt32 % 65536).toInt32) v1052 v1058)]) (fun _ => zFail) (zKI (fun v1059 => zC (zRv a2 [(34, fun b => s_X6_thrown E (some b))]) (fun _ => zFail) (zKI (fun v1065 => if v1065 = v1034 then (if v1034 = 0 then (zGaL 3 a3 (0 : Int32) (fun v1082 => if (lg_cmp v1082 ((v1059).toInt64)) = 0 then (s_L_law_1092 E (s_L_law_28 E n) a0 a1 a2 a3 a4 a5) else (zRetN .boolean (0 : Int32)))) else (s_L_law_1092 E (s_L_law_28 E n) a0 a1 a2 a3 a4 a5)) else (zRetN .boolean (0 : Int32))))))))))))))) else (if (v40 &&& (63 : Int32)) = (13 : Int32) then (zGaI 0 a0 (a5 + (1 : Int32)) (fun v1101 => zGaI 0 a0 (a5 + (2 : Int32)) (fun v1108 => zGaI 0 a0 (a5 + (3 : Int32)) (fun v1114 => zC (s_X0_heightByLevels E a1 (((v1101).toUInt32 % 65536).toInt32) v1108 v1114 a3) (fun _ => zFail) (zKI (fun v1116 => zGaI 0 a0 (a5 + (1 : Int32)) (fun v1127 => zGaI 0 a0 (a5 + (2 : Int32)) (fun v1134 => zGaI 0 a0 (a5 + (3 : Int32)) (fun v1140 => zC (zRv a2 [(34, fun b => s_X6_heightByLevels E (some b) (((v1127).toUInt32 % 65536).toInt32) v1134 v1140)]) (fun _ => zFail) (zKI (fun v1141 => zC (zRv a2 [(34, fun b => s_X6_thrown E (some b))]) (fun _ => zFail) (zKI (fun v1147 => if v1147 = v1116 then (if v1116 = 0 then (zGaL 3 a3 (0 : Int32) (fun v1164 => if (lg_cmp v1164 ((v1141).toInt64)) = 0 then (s_L_law_1174 E (s_L_law_28 E n) a0 a1 a2 a3 a4 a5) else (zRetN .boolean (0 : Int32)))) else (s_L_law_1174 E (s_L_law_28 E n) a0 a1 a2 a3 a4 a5)) else (zRetN .boolean (0 : Int32))))))))))))))) else (if (v40 &&& (63 : Int32)) = (14 : Int32) then (zGaI 0 a0 (a5 + (1 : Int32)) (fun v1183 => zGaI 0 a0 (a5 + (2 : Int32)) (fun v1190 => zGaI 0 a0 (a5 + (3 : Int32)) (fun v1196 => zC (s_X0_ruleOf E a1 (((v1183).toUInt32 % 65536).toInt32) v1190 v1196 a3) (fun _ => zFail) (zKI (fun v1198 => zGaI 0 a0 (a5 + (1 : Int32)) (fun v1209 => zGaI 0 a0 (a5 + (2 : Int32)) (fun v1216 => zGaI 0 a0 (a5 + (3 : Int32)) (fun v1222 => zC (zRv a2 [(34, fun b => s_X6_ruleOf E (some b) (((v1209).toUInt32 % 65536).toInt32) v1216 v1222)]) (fun _ => zFail) (zKI (fun v1223 => zC (zRv a2 [(34, fun b => s_X6_thrown E (some b))]) (fun _ => zFail) (zKI (fun v1229 => if v1229 = v1198 then (if v1198 = 0 then (zGaL 3 a3 (0 : Int32) (fun v1246 => if (lg_cmp v1246 ((v1223).toInt64)) = 0 then (s_L_law_1256 E (s_L_law_28 E n) a0 a1 a2 a3 a4 a5) else (zRetN .boolean (0 : Int32)))) else (s_L_law_1256 E (s_L_law_28 E n) a0 a1 a2 a3 a4 a5)) else (zRetN .boolean (0 : Int32))))))))))))))) else (if (v40 &&& (63 : Int32)) = (15 : Int32) then (zGaI 0 a0 (a5 + (1 : Int32)) (fun v1265 => zGaI 0 a0 (a5 + (2 : Int32)) (fun v1272 => zGaI 0 a0 (a5 + (3 : Int32)) (fun v1278 => zC (s_X0_proofSize E a1 (((v1265).toUInt32 % 65536).toInt32) v1272 v1278 a3) (fun _ => zFail) (zKI (fun v1280 => zGaI 0 a0 (a5 + (1 : Int32)) (fun v1291 => zGaI 0 a0 (a5 + (2 : Int32)) (fun v1298 => zGaI 0 a0 (a5 + (3 : Int32)) (fun v1304 => zC (zRv a2 [(34, fun b => s_X6_proofSize E (some b) (((v1291).toUInt32 % 65536).toInt32) v1298 v1304)]) (fun _ => zFail) (zKL (fun v1305 => zC (zRv a2 [(34, fun b => s_X6_thrown E (some b))]) (fun _ => zFail) (zKI (fun v1311 => if v1311 = v1280 then (if v1280 = 0 then (zGaL 3 a3 (0 : Int32) (fun v1328 => if (lg_cmp v1328 v1305) = 0 then (s_L_law_1337 E (s_L_law_28 E n) a0 a1 a2 a3 a4 a5) else (zRetN .boolean (0 : Int32)))) else (s_L_law_1337 E (s_L_law_28 E n) a0 a1 a2 a3 a4 a5)) else (zRetN .boolean (0 : Int32))))))))))))))) else (if (v40 &&& (63 : Int32)) = (16 : Int32) then (zGaI 0 a0 (a5 + (1 : Int32)) (fun v1346 => zGaI 0 a0 (a5 + (2 : Int32)) (fun v1353 => zGaI 0 a0 (a5 + (3 : Int32)) (fun v1359 => zC (s_X0_answers E a1 (((v1346).toUInt32 % 65536).toInt32) v1353 v1359 a3) (fun _ => zFail) (zKI (fun v1361 => zGaI 0 a0 (a5 + (1 : Int32)) (fun v1372 => zGaI 0 a0 (a5 + (2 : Int32)) (fun v1379 => zGaI 0 a0 (a5 + (3 : Int32)) (fun v1385 => zC (zRv a2 [(34, fun b => s_X6_answers E (some b) (((v1372).toUInt32 % 65536).toInt32) v1379 v1385)]) (fun _ => zFail) (zKI (fun v1386 => zC (zRv a2 [(34, fun b => s_X6_thrown E (some b))]) (fun _ => zFail) (zKI (fun v1392 => if v1392 = v1361 then (if v1361 = 0 then (zGaL 3 a3 (0 : Int32) (fun v1409 => if (lg_cmp v1409 ((v1386).toInt64)) = 0 then (s_L_law_1419 E (s_L_law_28 E n) a0 a1 a2 a3 a4 a5) else (zRetN .boolean (0 : Int32)))) else (s_L_law_1419 E (s_L_law_28 E n) a0 a1 a2 a3 a4 a5)) else (zRetN .boolean (0 : Int32))))))))))))))) else (if (v40 &&& (63 : Int32)) = (17 : Int32) then (zGaI 0 a0 (a5 + (1 : Int32)) (fun v1428 => zGaI 0 a0 (a5 + (2 : Int32)) (fun v1435 => zGaI 0 a0 (a5 + (3 : Int32)) (fun v1441 => zC (s_X0_answersByGoals E a1 (((v1428).toUInt32 % 65536).toInt32) v1435 v1441 a3) (fun _ => zFail) (zKI (fun v1443 => zGaI 0 a0 (a5 + (1 : Int32)) (fun v1454 => zGaI 0 a0 (a5 + (2 : Int32)) (fun v1461 => zGaI 0 a0 (a5 + (3 : Int32)) (fun v1467 => zC (zRv a2 [(34, fun b => s_X6_answersByGoals E (some b) (((v1454).toUInt32 % 65536).toInt32) v1461 v1467)]) (fun _ => zFail) (zKI (fun v1468 => zC (zRv a2 [(34, fun b => s_X6_thrown E (some b))]) (fun _ => zFail) (zKI (fun v1474 => if v1474 = v1443 then (if v1443 = 0 then (zGaL 3 a3 (0 : Int32) (fun v1491 => if (lg_cmp v1491 ((v1468).toInt64)) = 0 then (s_L_law_1501 E (s_L_law_28 E n) a0 a1 a2 a3 a4 a5) else (zRetN .boolean (0 : Int32)))) else (s_L_law_1501 E (s_L_law_28 E n) a0 a1 a2 a3 a4 a5)) else (zRetN .boolean (0 : Int32))))))))))))))) else (if (v40 &&& (63 : Int32)) = (18 : Int32) then (zGaI 0 a0 (a5 + (1 : Int32)) (fun v1510 => zGaI 0 a0 (a5 + (2 : Int32)) (fun v1517 => zGaI 0 a0 (a5 + (3 : Int32)) (fun v1523 => zGaI 0 a0 (a5 + (4 : Int32)) (fun v1529 => zC (s_X0_answerAt E a1 (((v1510).toUInt32 % 65536).toInt32) v1517 v1523 v1529 a3) (fun _ => zFail) (zKI (fun v1531 => zGaI 0 a0 (a5 + (1 : Int32)) (fun v1542 => zGaI 0 a0 (a5 + (2 : Int32)) (fun v1549 => zGaI 0 a0 (a5 + (3 : Int32)) (fun v1555 => zGaI 0 a0 (a5 + (4 : Int32)) (fun v1561 => zC (zRv a2 [(34, fun b => s_X6_answerAt E (some b) (((v1542).toUInt32 % 65536).toInt32) v1549 v1555 v1561)]) (fun _ => zFail) (zKI (fun v1562 => zC (zRv a2 [(34, fun b => s_X6_thrown E (some b))]) (fun _ => zFail) (zKI (fun v1568 => if v1568 = v1531 then (if v1531 = 0 then (zGaL 3 a3 (0 : Int32) (fun v1585 => if (lg_cmp v1585 ((v1562).toInt64)) = 0 then (s_L_law_1595 E (s_L_law_28 E n) a0 a1 a2 a3 a4 a5) else (zRetN .boolean (0 : Int32)))) else (s_L_law_1595 E (s_L_law_28 E n) a0 a1 a2 a3 a4 a5)) else (zRetN .boolean (0 : Int32))))))))))))))))) else (if (v40 &&& (63 : Int32)) = (19 : Int32) then (zC (zRv a1 [(16, fun b => s_X1_ruleCount E (some b))]) (fun _ => zFail) (zKI (fun v1599 => zC (zRv a2 [(34, fun b => s_X6_ruleCount E (some b))]) (fun _ => zFail) (zKI (fun v1603 => if v1599 = v1603 then (s_L_law_2702 E (s_L_law_28 E n) a0 a1 a2 a3 a4 a5) else (zRetN .boolean (0 : Int32))))))) else (if (v40 &&& (63 : Int32)) = (20 : Int32) then (zGaI 0 a0 (a5 + (1 : Int32)) (fun v1617 => zC (s_X0_variables E a1 v1617 a3) (fun _ => zFail) (zKI (fun v1619 => zGaI 0 a0 (a5 + (1 : Int32)) (fun v1630 => zC (zRv a2 [(34, fun b => s_X6_variables E (some b) v1630)]) (fun _ => zFail) (zKI (fun v1631 => zC (zRv a2 [(34, fun b => s_X6_thrown E (some b))]) (fun _ => zFail) (zKI (fun v1637 => if v1637 = v1619 then (if v1619 = 0 then (zGaL 3 a3 (0 : Int32) (fun v1654 => if (lg_cmp v1654 ((v1631).toInt64)) = 0 then (s_L_law_1664 E (s_L_law_28 E n) a0 a1 a2 a3 a4 a5) else (zRetN .boolean (0 : Int32)))) else (s_L_law_1664 E (s_L_law_28 E n) a0 a1 a2 a3 a4 a5)) else (zRetN .boolean (0 : Int32))))))))))) else (if (v40 &&& (63 : Int32)) = (21 : Int32) then (zGaI 0 a0 (a5 + (1 : Int32)) (fun v1673 => zC (s_X0_isRecursive E a1 v1673 a3) (fun _ => zFail) (zKI (fun v1675 => zGaI 0 a0 (a5 + (1 : Int32)) (fun v1686 => zC (zRv a2 [(34, fun b => s_X6_isRecursive E (some b) v1686)]) (fun _ => zFail) (zKI (fun v1687 => zC (zRv a2 [(34, fun b => s_X6_thrown E (some b))]) (fun _ => zFail) (zKI (fun v1693 => if v1693 = v1675 then (if v1675 = 0 then (zGaL 3 a3 (0 : Int32) (fun v1710 => if v1687 = 0 then (s_L_law_1721 E (s_L_law_28 E n) a0 a1 a2 a3 a4 a5 v1710 (0 : Int64)) else (s_L_law_1721 E (s_L_law_28 E n) a0 a1 a2 a3 a4 a5 v1710 (1 : Int64)))) else (s_L_law_1727 E (s_L_law_28 E n) a0 a1 a2 a3 a4 a5)) else (zRetN .boolean (0 : Int32))))))))))) else (if (v40 &&& (63 : Int32)) = (22 : Int32) then (zGaI 0 a0 (a5 + (1 : Int32)) (fun v1736 => zC (s_X0_stepsOf E a1 v1736 a3) (fun _ => zFail) (zKI (fun v1738 => zGaI 0 a0 (a5 + (1 : Int32)) (fun v1749 => zC (zRv a2 [(34, fun b => s_X6_stepsOf E (some b) v1749)]) (fun _ => zFail) (zKI (fun v1750 => zC (zRv a2 [(34, fun b => s_X6_thrown E (some b))]) (fun _ => zFail) (zKI (fun v1756 => if v1756 = v1738 then (if v1738 = 0 then (zGaL 3 a3 (0 : Int32) (fun v1773 => if (lg_cmp v1773 ((v1750).toInt64)) = 0 then (s_L_law_1783 E (s_L_law_28 E n) a0 a1 a2 a3 a4 a5) else (zRetN .boolean (0 : Int32)))) else (s_L_law_1783 E (s_L_law_28 E n) a0 a1 a2 a3 a4 a5)) else (zRetN .boolean (0 : Int32))))))))))) else (if (v40 &&& (63 : Int32)) = (23 : Int32) then (zGaI 0 a0 (a5 + (1 : Int32)) (fun v1792 => zC (s_X0_layerOf E a1 (((v1792).toUInt32 % 65536).toInt32) a3) (fun _ => zFail) (zKI (fun v1795 => zGaI 0 a0 (a5 + (1 : Int32)) (fun v1806 => zC (zRv a2 [(34, fun b => s_X6_layerOf E (some b) (((v1806).toUInt32 % 65536).toInt32))]) (fun _ => zFail) (zKI (fun v1808 => zC (zRv a2 [(34, fun b => s_X6_thrown E (some b))]) (fun _ => zFail) (zKI (fun v1814 => if v1814 = v1795 then (if v1795 = 0 then (zGaL 3 a3 (0 : Int32) (fun v1831 => if (lg_cmp v1831 ((v1808).toInt64)) = 0 then (s_L_law_1841 E (s_L_law_28 E n) a0 a1 a2 a3 a4 a5) else (zRetN .boolean (0 : Int32)))) else (s_L_law_1841 E (s_L_law_28 E n) a0 a1 a2 a3 a4 a5)) else (zRetN .boolean (0 : Int32))))))))))) else (if (v40 &&& (63 : Int32)) = (24 : Int32) then (zGaI 0 a0 (a5 + (1 : Int32)) (fun v1850 => zC (s_X0_layerByChains E a1 (((v1850).toUInt32 % 65536).toInt32) a3) (fun _ => zFail) (zKI (fun v1853 => zGaI 0 a0 (a5 + (1 : Int32)) (fun v1864 => zC (zRv a2 [(34, fun b => s_X6_layerByChains E (some b) (((v1864).toUInt32 % 65536).toInt32))]) (fun _ => zFail) (zKI (fun v1866 => zC (zRv a2 [(34, fun b => s_X6_thrown E (some b))]) (fun _ => zFail) (zKI (fun v1872 => if v1872 = v1853 then (if v1853 = 0 then (zGaL 3 a3 (0 : Int32) (fun v1889 => if (lg_cmp v1889 ((v1866).toInt64)) = 0 then (s_L_law_1899 E (s_L_law_28 E n) a0 a1 a2 a3 a4 a5) else (zRetN .boolean (0 : Int32)))) else (s_L_law_1899 E (s_L_law_28 E n) a0 a1 a2 a3 a4 a5)) else (zRetN .boolean (0 : Int32))))))))))) else (if (v40 &&& (63 : Int32)) = (25 : Int32) then (zGaI 0 a0 (a5 + (1 : Int32)) (fun v1908 => zGaI 0 a0 (a5 + (2 : Int32)) (fun v1915 => zC (s_X0_dependsOn E a1 (((v1908).toUInt32 % 65536).toInt32) (((v1915).toUInt32 % 65536).toInt32) a3) (fun _ => zFail) (zKI (fun v1918 => zGaI 0 a0 (a5 + (1 : Int32)) (fun v1929 => zGaI 0 a0 (a5 + (2 : Int32)) (fun v1936 => zC (zRv a2 [(34, fun b => s_X6_dependsOn E (some b) (((v1929).toUInt32 % 65536).toInt32) (((v1936).toUInt32 % 65536).toInt32))]) (fun _ => zFail) (zKI (fun v1938 => zC (zRv a2 [(34, fun b => s_X6_thrown E (some b))]) (fun _ => zFail) (zKI (fun v1944 => if v1944 = v1918 then (if v1918 = 0 then (zGaL 3 a3 (0 : Int32) (fun v1961 => if v1938 = 0 then (s_L_law_1972 E (s_L_law_28 E n) a0 a1 a2 a3 a4 a5 v1961 (0 : Int64)) else (s_L_law_1972 E (s_L_law_28 E n) a0 a1 a2 a3 a4 a5 v1961 (1 : Int64)))) else (s_L_law_1978 E (s_L_law_28 E n) a0 a1 a2 a3 a4 a5)) else (zRetN .boolean (0 : Int32))))))))))))) else (if (v40 &&& (63 : Int32)) = (26 : Int32) then (zC (zRv a1 [(16, fun b => s_X1_givenByAccounts E (some b))]) (fun _ => zFail) (zKI (fun v1982 => zC (zRv a2 [(34, fun b => s_X6_givenByAccounts E (some b))]) (fun _ => zFail) (zKI (fun v1986 => if v1982 = v1986 then (s_L_law_2702 E (s_L_law_28 E n) a0 a1 a2 a3 a4 a5) else (zRetN .boolean (0 : Int32))))))) else (if (v40 &&& (63 : Int32)) = (27 : Int32) then (zC (s_X0_reason E a1 a3) (fun _ => zFail) (zKI (fun v1996 => zC (zRv a2 [(34, fun b => s_X6_reason E (some b))]) (fun _ => zFail) (zKI (fun v2002 => zC (zRv a2 [(34, fun b => s_X6_thrown E (some b))]) (fun _ => zFail) (zKI (fun v2008 => if v2008 = v1996 then (if v1996 = 0 then (zGaL 3 a3 (0 : Int32) (fun v2025 => if (lg_cmp v2025 ((v2002).toInt64)) = 0 then (s_L_law_2035 E (s_L_law_28 E n) a0 a1 a2 a3 a4 a5) else (zRetN .boolean (0 : Int32)))) else (s_L_law_2035 E (s_L_law_28 E n) a0 a1 a2 a3 a4 a5)) else (zRetN .boolean (0 : Int32))))))))) else (if (v40 &&& (63 : Int32)) = (28 : Int32) then (zC (s_X0_detail E a1 a3) (fun _ => zFail) (zKI (fun v2040 => zC (zRv a2 [(34, fun b => s_X6_detail E (some b))]) (fun _ => zFail) (zKI (fun v2046 => zC (zRv a2 [(34, fun b => s_X6_thrown E (some b))]) (fun _ => zFail) (zKI (fun v2052 => if v2052 = v2040 then (if v2040 = 0 then (zGaL 3 a3 (0 : Int32) (fun v2069 => if (lg_cmp v2069 ((v2046).toInt64)) = 0 then (s_L_law_2079 E (s_L_law_28 E n) a0 a1 a2 a3 a4 a5) else (zRetN .boolean (0 : Int32)))) else (s_L_law_2079 E (s_L_law_28 E n) a0 a1 a2 a3 a4 a5)) else (zRetN .boolean (0 : Int32))))))))) else (if (v40 &&& (63 : Int32)) = (29 : Int32) then (zC (s_X0_meanHeight E a1 a4) (fun _ => zFail) (zKI (fun v2085 => zC (zRv a2 [(34, fun b => s_X6_meanHeight E (some b))]) (fun _ => zFail) (zKD (fun v2091 => zC (zRv a2 [(34, fun b => s_X6_thrown E (some b))]) (fun _ => zFail) (zKI (fun v2097 => if v2097 = v2085 then (if v2085 = 0 then (zGaD 4 a4 (0 : Int32) (fun v2115 => if (Op.cmpValue (FP.dcmp v2115 v2091) .l) = 0 then (s_L_law_2144 E (s_L_law_28 E n) a0 a1 a2 a3 a4 a5) else (zGaD 4 a4 (0 : Int32) (fun v2125 => zGaD 4 a4 (0 : Int32) (fun v2129 => if (Op.cmpValue (FP.dcmp v2125 v2129) .l) = 0 then (zRetN .boolean (0 : Int32)) else (if (Op.cmpValue (FP.dcmp v2091 v2091) .l) = 0 then (zRetN .boolean (0 : Int32)) else (s_L_law_2144 E (s_L_law_28 E n) a0 a1 a2 a3 a4 a5))))))) else (s_L_law_2144 E (s_L_law_28 E n) a0 a1 a2 a3 a4 a5)) else (zRetN .boolean (0 : Int32))))))))) else (if (v40 &&& (63 : Int32)) = (30 : Int32) then (zC (s_X0_derivedShare E a1 a4) (fun _ => zFail) (zKI (fun v2150 => zC (zRv a2 [(34, fun b => s_X6_derivedShare E (some b))]) (fun _ => zFail) (zKF (fun v2156 => zC (zRv a2 [(34, fun b => s_X6_thrown E (some b))]) (fun _ => zFail) (zKI (fun v2162 => if v2162 = v2150 then (if v2150 = 0 then (zGaD 4 a4 (0 : Int32) (fun v2180 => zNn64 (FP.f2d v2156) (fun v2183 => if (Op.cmpValue (FP.dcmp v2180 v2183) .l) = 0 then (s_L_law_2210 E (s_L_law_28 E n) a0 a1 a2 a3 a4 a5) else (zGaD 4 a4 (0 : Int32) (fun v2191 => zGaD 4 a4 (0 : Int32) (fun v2195 => if (Op.cmpValue (FP.dcmp v2191 v2195) .l) = 0 then (zRetN .boolean (0 : Int32)) else (if (Op.cmpValue (FP.fcmp v2156 v2156) .l) = 0 then (zRetN .boolean (0 : Int32)) else (s_L_law_2210 E (s_L_law_28 E n) a0 a1 a2 a3 a4 a5)))))))) else (s_L_law_2210 E (s_L_law_28 E n) a0 a1 a2 a3 a4 a5)) else (zRetN .boolean (0 : Int32))))))))) else (if (v40 &&& (63 : Int32)) = (31 : Int32) then (zC (zRv a1 [(16, fun b => s_X1_isConsistent E (some b))]) (fun _ => zFail) (zKI (fun v2214 => zC (zRv a2 [(34, fun b => s_X6_isConsistent E (some b))]) (fun _ => zFail) (zKI (fun v2218 => if v2214 = v2218 then (s_L_law_2702 E (s_L_law_28 E n) a0 a1 a2 a3 a4 a5) else (zRetN .boolean (0 : Int32))))))) else (if (v40 &&& (63 : Int32)) = (32 : Int32) then (zGaI 0 a0 (a5 + (1 : Int32)) (fun v2232 => zC (s_X0_append E a1 (((v2232).toUInt32 % 65536).toInt32) a3) (fun _ => zFail) (zKI (fun v2235 => zGaI 0 a0 (a5 + (1 : Int32)) (fun v2246 => zC (zRv a2 [(34, fun b => s_X6_append E (some b) (((v2246).toUInt32 % 65536).toInt32))]) (fun _ => zFail) (zKI (fun v2248 => zC (zRv a2 [(34, fun b => s_X6_thrown E (some b))]) (fun _ => zFail) (zKI (fun v2254 => if v2254 = v2235 then (if v2235 = 0 then (zGaL 3 a3 (0 : Int32) (fun v2271 => if (lg_cmp v2271 ((v2248).toInt64)) = 0 then (s_L_law_2281 E (s_L_law_28 E n) a0 a1 a2 a3 a4 a5) else (zRetN .boolean (0 : Int32)))) else (s_L_law_2281 E (s_L_law_28 E n) a0 a1 a2 a3 a4 a5)) else (zRetN .boolean (0 : Int32))))))))))) else (if (v40 &&& (63 : Int32)) = (33 : Int32) then (zC (s_X0_run E a1 a3) (fun _ => zFail) (zKI (fun v2286 => zC (zRv a2 [(34, fun b => s_X6_run E (some b))]) (fun _ => zFail) (zKI (fun v2292 => zC (zRv a2 [(34, fun b => s_X6_thrown E (some b))]) (fun _ => zFail) (zKI (fun v2298 => if v2298 = v2286 then (if v2286 = 0 then (zGaL 3 a3 (0 : Int32) (fun v2315 => if (lg_cmp v2315 ((v2292).toInt64)) = 0 then (s_L_law_2325 E (s_L_law_28 E n) a0 a1 a2 a3 a4 a5) else (zRetN .boolean (0 : Int32)))) else (s_L_law_2325 E (s_L_law_28 E n) a0 a1 a2 a3 a4 a5)) else (zRetN .boolean (0 : Int32))))))))) else (if (v40 &&& (63 : Int32)) = (34 : Int32) then (zC (s_X0_errorPosition E a1 a3) (fun _ => zFail) (zKI (fun v2330 => zC (zRv a2 [(34, fun b => s_X6_errorPosition E (some b))]) (fun _ => zFail) (zKI (fun v2336 => zC (zRv a2 [(34, fun b => s_X6_thrown E (some b))]) (fun _ => zFail) (zKI (fun v2342 => if v2342 = v2330 then (if v2330 = 0 then (zGaL 3 a3 (0 : Int32) (fun v2359 => if (lg_cmp v2359 ((v2336).toInt64)) = 0 then (s_L_law_2369 E (s_L_law_28 E n) a0 a1 a2 a3 a4 a5) else (zRetN .boolean (0 : Int32)))) else (s_L_law_2369 E (s_L_law_28 E n) a0 a1 a2 a3 a4 a5)) else (zRetN .boolean (0 : Int32))))))))) else (if (v40 &&& (63 : Int32)) = (35 : Int32) then (zC (s_X0_failedCommand E a1 a3) (fun _ => zFail) (zKI (fun v2374 => zC (zRv a2 [(34, fun b => s_X6_failedCommand E (some b))]) (fun _ => zFail) (zKI (fun v2380 => zC (zRv a2 [(34, fun b => s_X6_thrown E (some b))]) (fun _ => zFail) (zKI (fun v2386 => if v2386 = v2374 then (if v2374 = 0 then (zGaL 3 a3 (0 : Int32) (fun v2403 => if (lg_cmp v2403 ((v2380).toInt64)) = 0 then (s_L_law_2413 E (s_L_law_28 E n) a0 a1 a2 a3 a4 a5) else (zRetN .boolean (0 : Int32)))) else (s_L_law_2413 E (s_L_law_28 E n) a0 a1 a2 a3 a4 a5)) else (zRetN .boolean (0 : Int32))))))))) else (if (v40 &&& (63 : Int32)) = (36 : Int32) then (zGaI 0 a0 (a5 + (1 : Int32)) (fun v2422 => zC (s_X0_writeRule E a1 v2422 a3) (fun _ => zFail) (zKI (fun v2424 => zGaI 0 a0 (a5 + (1 : Int32)) (fun v2435 => zC (zRv a2 [(34, fun b => s_X6_writeRule E (some b) v2435)]) (fun _ => zFail) (zKI (fun v2436 => zC (zRv a2 [(34, fun b => s_X6_thrown E (some b))]) (fun _ => zFail) (zKI (fun v2442 => if v2442 = v2424 then (if v2424 = 0 then (zGaL 3 a3 (0 : Int32) (fun v2459 => if (lg_cmp v2459 ((v2436).toInt64)) = 0 then (s_L_law_2469 E (s_L_law_28 E n) a0 a1 a2 a3 a4 a5) else (zRetN .boolean (0 : Int32)))) else (s_L_law_2469 E (s_L_law_28 E n) a0 a1 a2 a3 a4 a5)) else (zRetN .boolean (0 : Int32))))))))))) else (if (v40 &&& (63 : Int32)) = (37 : Int32) then (zGaI 0 a0 (a5 + (1 : Int32)) (fun v2478 => zGaI 0 a0 (a5 + (2 : Int32)) (fun v2485 => zGaI 0 a0 (a5 + (3 : Int32)) (fun v2491 => zC (s_X0_writeStep E a1 (((v2478).toUInt32 % 65536).toInt32) v2485 v2491 a3) (fun _ => zFail) (zKI (fun v2493 => zGaI 0 a0 (a5 + (1 : Int32)) (fun v2504 => zGaI 0 a0 (a5 + (2 : Int32)) (fun v2511 => zGaI 0 a0 (a5 + (3 : Int32)) (fun v2517 => zC (zRv a2 [(34, fun b => s_X6_writeStep E (some b) (((v2504).toUInt32 % 65536).toInt32) v2511 v2517)]) (fun _ => zFail) (zKI (fun v2518 => zC (zRv a2 [(34, fun b => s_X6_thrown E (some b))]) (fun _ => zFail) (zKI (fun v2524 => if v2524 = v2493 then (if v2493 = 0 then (zGaL 3 a3 (0 : Int32) (fun v2541 => if (lg_cmp v2541 ((v2518).toInt64)) = 0 then (s_L_law_2551 E (s_L_law_28 E n) a0 a1 a2 a3 a4 a5) else (zRetN .boolean (0 : Int32)))) else (s_L_law_2551 E (s_L_law_28 E n) a0 a1 a2 a3 a4 a5)) else (zRetN .boolean (0 : Int32))))))))))))))) else (if (v40 &&& (63 : Int32)) = (38 : Int32) then (zC (zRv a1 [(16, fun b => s_X1_writeGiven E (some b))]) (fun _ => zFail) (zKI (fun v2555 => zC (zRv a2 [(34, fun b => s_X6_writeGiven E (some b))]) (fun _ => zFail) (zKI (fun v2559 => if v2555 = v2559 then (s_L_law_2702 E (s_L_law_28 E n) a0 a1 a2 a3 a4 a5) else (zRetN .boolean (0 : Int32))))))) else (if (v40 &&& (63 : Int32)) = (39 : Int32) then (zGaI 0 a0 (a5 + (1 : Int32)) (fun v2573 => zC (s_X0_outputAt E a1 v2573 a3) (fun _ => zFail) (zKI (fun v2575 => zGaI 0 a0 (a5 + (1 : Int32)) (fun v2586 => zC (zRv a2 [(34, fun b => s_X6_outputAt E (some b) v2586)]) (fun _ => zFail) (zKI (fun v2587 => zC (zRv a2 [(34, fun b => s_X6_thrown E (some b))]) (fun _ => zFail) (zKI (fun v2593 => if v2593 = v2575 then (if v2575 = 0 then (zGaL 3 a3 (0 : Int32) (fun v2610 => if (lg_cmp v2610 ((v2587).toInt64)) = 0 then (s_L_law_2620 E (s_L_law_28 E n) a0 a1 a2 a3 a4 a5) else (zRetN .boolean (0 : Int32)))) else (s_L_law_2620 E (s_L_law_28 E n) a0 a1 a2 a3 a4 a5)) else (zRetN .boolean (0 : Int32))))))))))) else (if (v40 &&& (63 : Int32)) = (40 : Int32) then (zC (s_X0_undo E a1 a3) (fun _ => zFail) (zKI (fun v2625 => zC (zRv a2 [(34, fun b => s_X6_undo E (some b))]) (fun _ => zFail) (zKI (fun v2631 => zC (zRv a2 [(34, fun b => s_X6_thrown E (some b))]) (fun _ => zFail) (zKI (fun v2637 => if v2637 = v2625 then (if v2625 = 0 then (zGaL 3 a3 (0 : Int32) (fun v2654 => if (lg_cmp v2654 ((v2631).toInt64)) = 0 then (s_L_law_2664 E (s_L_law_28 E n) a0 a1 a2 a3 a4 a5) else (zRetN .boolean (0 : Int32)))) else (s_L_law_2664 E (s_L_law_28 E n) a0 a1 a2 a3 a4 a5)) else (zRetN .boolean (0 : Int32))))))))) else (if (v40 &&& (63 : Int32)) = (41 : Int32) then (zC (zRv a1 [(16, fun b => s_X1_save E (some b))]) (fun _ => zFail) (zKV (zC (zRv a2 [(34, fun b => s_X6_save E (some b))]) (fun _ => zFail) (zKV (s_L_law_2702 E (s_L_law_28 E n) a0 a1 a2 a3 a4 a5))))) else (if (v40 &&& (63 : Int32)) = (42 : Int32) then (zC (s_X0_restore E a1) (fun _ => zFail) (zKI (fun v2679 => zC (zRv a2 [(34, fun b => s_X6_restore E (some b))]) (fun _ => zFail) (zKV (zC (zRv a2 [(34, fun b => s_X6_thrown E (some b))]) (fun _ => zFail) (zKI (fun v2689 => if v2689 = v2679 then (s_L_law_2702 E (s_L_law_28 E n) a0 a1 a2 a3 a4 a5) else (zRetN .boolean (0 : Int32))))))))) else (s_L_law_2702 E (s_L_law_28 E n) a0 a1 a2 a3 a4 a5))))))))))))))))))))))))))))))))))))))))))))))
theorem w_L_law_28 (x : zCx p l R s m args meth c E D tA cL_law 9 yL_law.cls 524) (hl : l.stackTraces = false) (hret : meth.sig.returnType = ret) (hnm : True) (htab : True) : ∀ (n : Nat) (a0 : Option Nat) (a1 : Option Nat) (a2 : Option Nat) (a3 : Option Nat) (a4 : Option Nat) (a5 : Int32), zW p l e R s m args below meth c E D tA 9 k0 (s_L_law_28 E n a0 a1 a2 a3 a4 a5) [(0, zP a0), (1, zP a1), (2, zP a2), (3, zP a3), (4, zP a4), (5, zI a5)] 28 [] := by
  intro n
  induction n with
  | zero => intro a0 a1 a2 a3 a4 a5; exact z_fail
  | succ n h28 =>
    intro a0 a1 a2 a3 a4 a5
    rw [s_L_law_28]
    refine z_iload (pc := 28) x 5 dL_law_28 rfl ?_
    refine z_aload_n (pc := 30) x 0 dL_law_30 rfl rfl ?_
    refine z_len (pc := 31) x dL_law_31 fun v31 => ?_
    refine z_iconst (pc := 32) x (v := (5 : Int32)) dL_law_32 rfl ?_
    refine z_isub (pc := 33) x dL_law_33 ?_
    refine z_icmp_gt (pc := 34) (tgt := 2708) x dL_law_34 rfl (fun _ => ?_) (fun _ => ?_)
    · refine z_iconst (pc := 2708) x (v := (1 : Int32)) dL_law_2708 rfl ?_
      exact z_zret (pc := 2709) x hret dL_law_2709
    · refine z_aload_n (pc := 37) x 0 dL_law_37 rfl rfl ?_
      refine z_iload (pc := 38) x 5 dL_law_38 rfl ?_
      refine z_iald (pc := 40) x (t := 0) rfl dL_law_40 fun v40 => ?_
      refine z_bipush (pc := 41) x (v := (63 : Int32)) dL_law_41 rfl ?_
      refine z_iand (pc := 43) x dL_law_43 ?_
      refine z_ite (fun e44_1 => ?_) (fun e44_1 => ?_)
      · refine z_tabIn (pc := 44) (tgt := 232) x (188) dL_law_44 e44_1 (by decide) (by decide) rfl rfl ?_
        refine z_aload_n (pc := 232) x 1 dL_law_232 rfl rfl ?_
        refine z_aload_n (pc := 233) x 0 dL_law_233 rfl rfl ?_
        refine z_iload (pc := 234) x 5 dL_law_234 rfl ?_
        refine z_iconst (pc := 236) x (v := (1 : Int32)) dL_law_236 rfl ?_
        refine z_iadd (pc := 237) x dL_law_237 ?_
        refine z_iald (pc := 238) x (t := 0) rfl dL_law_238 fun v238 => ?_
        refine z_i2c (pc := 239) x dL_law_239 ?_
        refine z_aload_n (pc := 240) x 0 dL_law_240 rfl rfl ?_
        refine z_iload (pc := 241) x 5 dL_law_241 rfl ?_
        refine z_iconst (pc := 243) x (v := (2 : Int32)) dL_law_243 rfl ?_
        refine z_iadd (pc := 244) x dL_law_244 ?_
        refine z_iald (pc := 245) x (t := 0) rfl dL_law_245 fun v245 => ?_
        refine z_aload_n (pc := 246) x 0 dL_law_246 rfl rfl ?_
        refine z_iload (pc := 247) x 5 dL_law_247 rfl ?_
        refine z_iconst (pc := 249) x (v := (3 : Int32)) dL_law_249 rfl ?_
        refine z_iadd (pc := 250) x dL_law_250 ?_
        refine z_iald (pc := 251) x (t := 0) rfl dL_law_251 fun v251 => ?_
        refine z_aload_n (pc := 252) x 3 dL_law_252 rfl rfl ?_
        refine z_call (pc := 253) (z_canSX (pc := 253) (As := [zP a1, zI (((v238).toUInt32 % 65536).toInt32), zI v245, zI v251, zP a3]) (st := []) x (m_X0_addFact hl a1 (((v238).toUInt32 % 65536).toInt32) v245 v251 a3) q1459 q1460 q107 q1461 n_X0_addFact ⟨by decide, by decide⟩ (Nat.le_of_ble_eq_true rfl) dL_law_253) (zv_I fun v253 => ?_) (fun q => zx_fail)
        refine z_istore (pc := 256) (lv' := [(6, zI v253), (0, zP a0), (1, zP a1), (2, zP a2), (3, zP a3), (4, zP a4), (5, zI a5)]) x dL_law_256 (Nat.le_of_ble_eq_true rfl) rfl ?_
        refine z_aload_n (pc := 258) x 3 dL_law_258 rfl rfl ?_
        refine z_aload_n (pc := 259) x 1 dL_law_259 rfl rfl ?_
        refine z_iload (pc := 260) x 6 dL_law_260 rfl ?_
        refine z_iconst (pc := 262) x (v := (1 : Int32)) dL_law_262 rfl ?_
        refine z_iadd (pc := 263) x dL_law_263 ?_
        refine z_iald (pc := 264) x (t := 0) rfl dL_law_264 fun v264 => ?_
        refine z_i2c (pc := 265) x dL_law_265 ?_
        refine z_aload_n (pc := 266) x 1 dL_law_266 rfl rfl ?_
        refine z_iload (pc := 267) x 6 dL_law_267 rfl ?_
        refine z_iconst (pc := 269) x (v := (2 : Int32)) dL_law_269 rfl ?_
        refine z_iadd (pc := 270) x dL_law_270 ?_
        refine z_iald (pc := 271) x (t := 0) rfl dL_law_271 fun v271 => ?_
        refine z_aload_n (pc := 272) x 1 dL_law_272 rfl rfl ?_
        refine z_iload (pc := 273) x 6 dL_law_273 rfl ?_
        refine z_iconst (pc := 275) x (v := (3 : Int32)) dL_law_275 rfl ?_
        refine z_iadd (pc := 276) x dL_law_276 ?_
        refine z_iald (pc := 277) x (t := 0) rfl dL_law_277 fun v277 => ?_
        refine z_call (pc := 278) (z_canV (pc := 278) (As := [zI (((v264).toUInt32 % 65536).toInt32), zI v271, zI v277]) (st := []) x (ci := 34) rfl (fun b => m_X6_addFact hl (some b) (((v264).toUInt32 % 65536).toInt32) v271 v277) q2874 q2875 (x.2.2.2.2.1 _ q2876) q121 q2877 n_X6_addFact ⟨by decide, by decide⟩ (Nat.le_of_ble_eq_true rfl) dL_law_278) (zv_I fun v278 => ?_) (fun q => zx_fail)
        refine z_istore (pc := 281) (lv' := [(7, zI v278), (6, zI v253), (0, zP a0), (1, zP a1), (2, zP a2), (3, zP a3), (4, zP a4), (5, zI a5)]) x dL_law_281 (Nat.le_of_ble_eq_true rfl) rfl ?_
        refine z_aload_n (pc := 283) x 4 dL_law_283 rfl rfl ?_
        refine z_call (pc := 284) (z_canV (pc := 284) (As := []) (st := []) x (ci := 34) rfl (fun b => m_X6_thrown hl (some b)) q2870 q2871 (x.2.2.2.2.1 _ q2872) q121 q2873 n_X6_thrown ⟨by decide, by decide⟩ (Nat.le_of_ble_eq_true rfl) dL_law_284) (zv_I fun v284 => ?_) (fun q => zx_fail)
        refine z_iload (pc := 287) x 1 dL_law_287 rfl ?_
        refine z_icmp_eq (pc := 289) (tgt := 294) x dL_law_289 rfl (fun _ => ?_) (fun _ => ?_)
        · refine z_iload (pc := 294) x 1 dL_law_294 rfl ?_
          refine z_if_ne (pc := 296) (tgt := 311) x dL_law_296 rfl (fun _ => ?_) (fun _ => ?_)
          · refine z_aload_n (pc := 299) x 5 dL_law_299 rfl rfl ?_
            refine z_iconst (pc := 300) x (v := (0 : Int32)) dL_law_300 rfl ?_
            refine z_lald (pc := 301) x (t := 3) rfl dL_law_301 fun v301 => ?_
            refine z_iload (pc := 302) x 0 dL_law_302 rfl ?_
            refine z_i2l (pc := 304) x dL_law_304 ?_
            refine z_lcmp (pc := 305) x dL_law_305 ?_
            refine z_if_eq (pc := 306) (tgt := 311) x dL_law_306 rfl (fun _ => ?_) (fun _ => ?_)
            · exact z_sub [2, 3, 4, 5, 6, 7] rfl (w_L_law_311 x hl hret hnm htab h28 a0 a1 a2 a3 a4 a5)
            · refine z_iconst (pc := 309) x (v := (0 : Int32)) dL_law_309 rfl ?_
              exact z_zret (pc := 310) x hret dL_law_310
          · exact z_sub [2, 3, 4, 5, 6, 7] rfl (w_L_law_311 x hl hret hnm htab h28 a0 a1 a2 a3 a4 a5)
        · refine z_iconst (pc := 292) x (v := (0 : Int32)) dL_law_292 rfl ?_
          exact z_zret (pc := 293) x hret dL_law_293
      refine z_ite (fun e44_2 => ?_) (fun e44_2 => ?_)
      · refine z_tabIn (pc := 44) (tgt := 314) x (270) dL_law_44 e44_2 (by decide) (by decide) rfl rfl ?_
        refine z_aload_n (pc := 314) x 1 dL_law_314 rfl rfl ?_
        refine z_aload_n (pc := 315) x 0 dL_law_315 rfl rfl ?_
        refine z_iload (pc := 316) x 5 dL_law_316 rfl ?_
        refine z_iconst (pc := 318) x (v := (1 : Int32)) dL_law_318 rfl ?_
        refine z_iadd (pc := 319) x dL_law_319 ?_
        refine z_iald (pc := 320) x (t := 0) rfl dL_law_320 fun v320 => ?_
        refine z_i2c (pc := 321) x dL_law_321 ?_
        refine z_aload_n (pc := 322) x 0 dL_law_322 rfl rfl ?_
        refine z_iload (pc := 323) x 5 dL_law_323 rfl ?_
        refine z_iconst (pc := 325) x (v := (2 : Int32)) dL_law_325 rfl ?_
        refine z_iadd (pc := 326) x dL_law_326 ?_
        refine z_iald (pc := 327) x (t := 0) rfl dL_law_327 fun v327 => ?_
        refine z_aload_n (pc := 328) x 0 dL_law_328 rfl rfl ?_
        refine z_iload (pc := 329) x 5 dL_law_329 rfl ?_
        refine z_iconst (pc := 331) x (v := (3 : Int32)) dL_law_331 rfl ?_
        refine z_iadd (pc := 332) x dL_law_332 ?_
        refine z_iald (pc := 333) x (t := 0) rfl dL_law_333 fun v333 => ?_
        refine z_aload_n (pc := 334) x 3 dL_law_334 rfl rfl ?_
        refine z_call (pc := 335) (z_canSX (pc := 335) (As := [zP a1, zI (((v320).toUInt32 % 65536).toInt32), zI v327, zI v333, zP a3]) (st := []) x (m_X0_takeFact hl a1 (((v320).toUInt32 % 65536).toInt32) v327 v333 a3) q1639 q1640 q107 q1641 n_X0_takeFact ⟨by decide, by decide⟩ (Nat.le_of_ble_eq_true rfl) dL_law_335) (zv_I fun v335 => ?_) (fun q => zx_fail)
        refine z_istore (pc := 338) (lv' := [(6, zI v335), (0, zP a0), (1, zP a1), (2, zP a2), (3, zP a3), (4, zP a4), (5, zI a5)]) x dL_law_338 (Nat.le_of_ble_eq_true rfl) rfl ?_
        refine z_aload_n (pc := 340) x 3 dL_law_340 rfl rfl ?_
        refine z_aload_n (pc := 341) x 1 dL_law_341 rfl rfl ?_
        refine z_iload (pc := 342) x 6 dL_law_342 rfl ?_
        refine z_iconst (pc := 344) x (v := (1 : Int32)) dL_law_344 rfl ?_
        refine z_iadd (pc := 345) x dL_law_345 ?_
        refine z_iald (pc := 346) x (t := 0) rfl dL_law_346 fun v346 => ?_
        refine z_i2c (pc := 347) x dL_law_347 ?_
        refine z_aload_n (pc := 348) x 1 dL_law_348 rfl rfl ?_
        refine z_iload (pc := 349) x 6 dL_law_349 rfl ?_
        refine z_iconst (pc := 351) x (v := (2 : Int32)) dL_law_351 rfl ?_
        refine z_iadd (pc := 352) x dL_law_352 ?_
        refine z_iald (pc := 353) x (t := 0) rfl dL_law_353 fun v353 => ?_
        refine z_aload_n (pc := 354) x 1 dL_law_354 rfl rfl ?_
        refine z_iload (pc := 355) x 6 dL_law_355 rfl ?_
        refine z_iconst (pc := 357) x (v := (3 : Int32)) dL_law_357 rfl ?_
        refine z_iadd (pc := 358) x dL_law_358 ?_
        refine z_iald (pc := 359) x (t := 0) rfl dL_law_359 fun v359 => ?_
        refine z_call (pc := 360) (z_canV (pc := 360) (As := [zI (((v346).toUInt32 % 65536).toInt32), zI v353, zI v359]) (st := []) x (ci := 34) rfl (fun b => m_X6_takeFact hl (some b) (((v346).toUInt32 % 65536).toInt32) v353 v359) q2915 q2916 (x.2.2.2.2.1 _ q2917) q121 q2918 n_X6_takeFact ⟨by decide, by decide⟩ (Nat.le_of_ble_eq_true rfl) dL_law_360) (zv_I fun v360 => ?_) (fun q => zx_fail)
        refine z_istore (pc := 363) (lv' := [(7, zI v360), (6, zI v335), (0, zP a0), (1, zP a1), (2, zP a2), (3, zP a3), (4, zP a4), (5, zI a5)]) x dL_law_363 (Nat.le_of_ble_eq_true rfl) rfl ?_
        refine z_aload_n (pc := 365) x 4 dL_law_365 rfl rfl ?_
        refine z_call (pc := 366) (z_canV (pc := 366) (As := []) (st := []) x (ci := 34) rfl (fun b => m_X6_thrown hl (some b)) q2870 q2871 (x.2.2.2.2.1 _ q2872) q121 q2873 n_X6_thrown ⟨by decide, by decide⟩ (Nat.le_of_ble_eq_true rfl) dL_law_366) (zv_I fun v366 => ?_) (fun q => zx_fail)
        refine z_iload (pc := 369) x 1 dL_law_369 rfl ?_
        refine z_icmp_eq (pc := 371) (tgt := 376) x dL_law_371 rfl (fun _ => ?_) (fun _ => ?_)
        · refine z_iload (pc := 376) x 1 dL_law_376 rfl ?_
          refine z_if_ne (pc := 378) (tgt := 393) x dL_law_378 rfl (fun _ => ?_) (fun _ => ?_)
          · refine z_aload_n (pc := 381) x 5 dL_law_381 rfl rfl ?_
            refine z_iconst (pc := 382) x (v := (0 : Int32)) dL_law_382 rfl ?_
            refine z_lald (pc := 383) x (t := 3) rfl dL_law_383 fun v383 => ?_
            refine z_iload (pc := 384) x 0 dL_law_384 rfl ?_
            refine z_i2l (pc := 386) x dL_law_386 ?_
            refine z_lcmp (pc := 387) x dL_law_387 ?_
            refine z_if_eq (pc := 388) (tgt := 393) x dL_law_388 rfl (fun _ => ?_) (fun _ => ?_)
            · exact z_sub [2, 3, 4, 5, 6, 7] rfl (w_L_law_393 x hl hret hnm htab h28 a0 a1 a2 a3 a4 a5)
            · refine z_iconst (pc := 391) x (v := (0 : Int32)) dL_law_391 rfl ?_
              exact z_zret (pc := 392) x hret dL_law_392
          · exact z_sub [2, 3, 4, 5, 6, 7] rfl (w_L_law_393 x hl hret hnm htab h28 a0 a1 a2 a3 a4 a5)
        · refine z_iconst (pc := 374) x (v := (0 : Int32)) dL_law_374 rfl ?_
          exact z_zret (pc := 375) x hret dL_law_375
      refine z_ite (fun e44_3 => ?_) (fun e44_3 => ?_)
      · refine z_tabIn (pc := 44) (tgt := 396) x (352) dL_law_44 e44_3 (by decide) (by decide) rfl rfl ?_
        refine z_aload_n (pc := 396) x 1 dL_law_396 rfl rfl ?_
        refine z_aload_n (pc := 397) x 0 dL_law_397 rfl rfl ?_
        refine z_iload (pc := 398) x 5 dL_law_398 rfl ?_
        refine z_iconst (pc := 400) x (v := (1 : Int32)) dL_law_400 rfl ?_
        refine z_iadd (pc := 401) x dL_law_401 ?_
        refine z_iald (pc := 402) x (t := 0) rfl dL_law_402 fun v402 => ?_
        refine z_aload_n (pc := 403) x 3 dL_law_403 rfl rfl ?_
        refine z_call (pc := 404) (z_canSX (pc := 404) (As := [zP a1, zI v402, zP a3]) (st := []) x (m_X0_dropRule hl a1 v402 a3) q1670 q1671 q107 q1672 n_X0_dropRule ⟨by decide, by decide⟩ (Nat.le_of_ble_eq_true rfl) dL_law_404) (zv_I fun v404 => ?_) (fun q => zx_fail)
        refine z_istore (pc := 407) (lv' := [(6, zI v404), (0, zP a0), (1, zP a1), (2, zP a2), (3, zP a3), (4, zP a4), (5, zI a5)]) x dL_law_407 (Nat.le_of_ble_eq_true rfl) rfl ?_
        refine z_aload_n (pc := 409) x 3 dL_law_409 rfl rfl ?_
        refine z_aload_n (pc := 410) x 1 dL_law_410 rfl rfl ?_
        refine z_iload (pc := 411) x 6 dL_law_411 rfl ?_
        refine z_iconst (pc := 413) x (v := (1 : Int32)) dL_law_413 rfl ?_
        refine z_iadd (pc := 414) x dL_law_414 ?_
        refine z_iald (pc := 415) x (t := 0) rfl dL_law_415 fun v415 => ?_
        refine z_call (pc := 416) (z_canV (pc := 416) (As := [zI v415]) (st := []) x (ci := 34) rfl (fun b => m_X6_dropRule hl (some b) v415) q3016 q3017 (x.2.2.2.2.1 _ q3018) q121 q3019 n_X6_dropRule ⟨by decide, by decide⟩ (Nat.le_of_ble_eq_true rfl) dL_law_416) (zv_I fun v416 => ?_) (fun q => zx_fail)
        refine z_istore (pc := 419) (lv' := [(7, zI v416), (6, zI v404), (0, zP a0), (1, zP a1), (2, zP a2), (3, zP a3), (4, zP a4), (5, zI a5)]) x dL_law_419 (Nat.le_of_ble_eq_true rfl) rfl ?_
        refine z_aload_n (pc := 421) x 4 dL_law_421 rfl rfl ?_
        refine z_call (pc := 422) (z_canV (pc := 422) (As := []) (st := []) x (ci := 34) rfl (fun b => m_X6_thrown hl (some b)) q2870 q2871 (x.2.2.2.2.1 _ q2872) q121 q2873 n_X6_thrown ⟨by decide, by decide⟩ (Nat.le_of_ble_eq_true rfl) dL_law_422) (zv_I fun v422 => ?_) (fun q => zx_fail)
        refine z_iload (pc := 425) x 1 dL_law_425 rfl ?_
        refine z_icmp_eq (pc := 427) (tgt := 432) x dL_law_427 rfl (fun _ => ?_) (fun _ => ?_)
        · refine z_iload (pc := 432) x 1 dL_law_432 rfl ?_
          refine z_if_ne (pc := 434) (tgt := 449) x dL_law_434 rfl (fun _ => ?_) (fun _ => ?_)
          · refine z_aload_n (pc := 437) x 5 dL_law_437 rfl rfl ?_
            refine z_iconst (pc := 438) x (v := (0 : Int32)) dL_law_438 rfl ?_
            refine z_lald (pc := 439) x (t := 3) rfl dL_law_439 fun v439 => ?_
            refine z_iload (pc := 440) x 0 dL_law_440 rfl ?_
            refine z_i2l (pc := 442) x dL_law_442 ?_
            refine z_lcmp (pc := 443) x dL_law_443 ?_
            refine z_if_eq (pc := 444) (tgt := 449) x dL_law_444 rfl (fun _ => ?_) (fun _ => ?_)
            · exact z_sub [2, 3, 4, 5, 6, 7] rfl (w_L_law_449 x hl hret hnm htab h28 a0 a1 a2 a3 a4 a5)
            · refine z_iconst (pc := 447) x (v := (0 : Int32)) dL_law_447 rfl ?_
              exact z_zret (pc := 448) x hret dL_law_448
          · exact z_sub [2, 3, 4, 5, 6, 7] rfl (w_L_law_449 x hl hret hnm htab h28 a0 a1 a2 a3 a4 a5)
        · refine z_iconst (pc := 430) x (v := (0 : Int32)) dL_law_430 rfl ?_
          exact z_zret (pc := 431) x hret dL_law_431
      refine z_ite (fun e44_4 => ?_) (fun e44_4 => ?_)
      · refine z_tabIn (pc := 44) (tgt := 452) x (408) dL_law_44 e44_4 (by decide) (by decide) rfl rfl ?_
        refine z_aload_n (pc := 452) x 1 dL_law_452 rfl rfl ?_
        refine z_call (pc := 453) (z_canV (pc := 453) (As := []) (st := []) x (ci := 16) rfl (fun b => m_X1_givenCount hl (some b)) q346 q347 (x.2.2.2.2.1 _ q348) q108 q349 n_X1_givenCount ⟨by decide, by decide⟩ (Nat.le_of_ble_eq_true rfl) dL_law_453) (zv_I fun v453 => ?_) (fun q => zx_fail)
        refine z_aload_n (pc := 456) x 2 dL_law_456 rfl rfl ?_
        refine z_call (pc := 457) (z_canV (pc := 457) (As := []) (st := [zI v453]) x (ci := 34) rfl (fun b => m_X6_givenCount hl (some b)) q3028 q3029 (x.2.2.2.2.1 _ q3030) q121 q3031 n_X6_givenCount ⟨by decide, by decide⟩ (Nat.le_of_ble_eq_true rfl) dL_law_457) (zv_I fun v457 => ?_) (fun q => zx_fail)
        refine z_icmp_eq (pc := 460) (tgt := 2702) x dL_law_460 rfl (fun _ => ?_) (fun _ => ?_)
        · exact z_sub [0, 1, 2, 3, 4, 5] rfl (w_L_law_2702 x hl hret hnm htab h28 a0 a1 a2 a3 a4 a5)
        · refine z_iconst (pc := 463) x (v := (0 : Int32)) dL_law_463 rfl ?_
          exact z_zret (pc := 464) x hret dL_law_464
      refine z_ite (fun e44_5 => ?_) (fun e44_5 => ?_)
      · refine z_tabIn (pc := 44) (tgt := 465) x (421) dL_law_44 e44_5 (by decide) (by decide) rfl rfl ?_
        refine z_aload_n (pc := 465) x 1 dL_law_465 rfl rfl ?_
        refine z_aload_n (pc := 466) x 0 dL_law_466 rfl rfl ?_
        refine z_iload (pc := 467) x 5 dL_law_467 rfl ?_
        refine z_iconst (pc := 469) x (v := (1 : Int32)) dL_law_469 rfl ?_
        refine z_iadd (pc := 470) x dL_law_470 ?_
        refine z_iald (pc := 471) x (t := 0) rfl dL_law_471 fun v471 => ?_
        refine z_i2c (pc := 472) x dL_law_472 ?_
        refine z_aload_n (pc := 473) x 0 dL_law_473 rfl rfl ?_
        refine z_iload (pc := 474) x 5 dL_law_474 rfl ?_
        refine z_iconst (pc := 476) x (v := (2 : Int32)) dL_law_476 rfl ?_
        refine z_iadd (pc := 477) x dL_law_477 ?_
        refine z_iald (pc := 478) x (t := 0) rfl dL_law_478 fun v478 => ?_
        refine z_aload_n (pc := 479) x 0 dL_law_479 rfl rfl ?_
        refine z_iload (pc := 480) x 5 dL_law_480 rfl ?_
        refine z_iconst (pc := 482) x (v := (3 : Int32)) dL_law_482 rfl ?_
        refine z_iadd (pc := 483) x dL_law_483 ?_
        refine z_iald (pc := 484) x (t := 0) rfl dL_law_484 fun v484 => ?_
        refine z_aload_n (pc := 485) x 3 dL_law_485 rfl rfl ?_
        refine z_call (pc := 486) (z_canSX (pc := 486) (As := [zP a1, zI (((v471).toUInt32 % 65536).toInt32), zI v478, zI v484, zP a3]) (st := []) x (m_X0_isGiven hl a1 (((v471).toUInt32 % 65536).toInt32) v478 v484 a3) q1733 q1734 q107 q1735 n_X0_isGiven ⟨by decide, by decide⟩ (Nat.le_of_ble_eq_true rfl) dL_law_486) (zv_I fun v486 => ?_) (fun q => zx_fail)
        refine z_istore (pc := 489) (lv' := [(6, zI v486), (0, zP a0), (1, zP a1), (2, zP a2), (3, zP a3), (4, zP a4), (5, zI a5)]) x dL_law_489 (Nat.le_of_ble_eq_true rfl) rfl ?_
        refine z_aload_n (pc := 491) x 3 dL_law_491 rfl rfl ?_
        refine z_aload_n (pc := 492) x 1 dL_law_492 rfl rfl ?_
        refine z_iload (pc := 493) x 6 dL_law_493 rfl ?_
        refine z_iconst (pc := 495) x (v := (1 : Int32)) dL_law_495 rfl ?_
        refine z_iadd (pc := 496) x dL_law_496 ?_
        refine z_iald (pc := 497) x (t := 0) rfl dL_law_497 fun v497 => ?_
        refine z_i2c (pc := 498) x dL_law_498 ?_
        refine z_aload_n (pc := 499) x 1 dL_law_499 rfl rfl ?_
        refine z_iload (pc := 500) x 6 dL_law_500 rfl ?_
        refine z_iconst (pc := 502) x (v := (2 : Int32)) dL_law_502 rfl ?_
        refine z_iadd (pc := 503) x dL_law_503 ?_
        refine z_iald (pc := 504) x (t := 0) rfl dL_law_504 fun v504 => ?_
        refine z_aload_n (pc := 505) x 1 dL_law_505 rfl rfl ?_
        refine z_iload (pc := 506) x 6 dL_law_506 rfl ?_
        refine z_iconst (pc := 508) x (v := (3 : Int32)) dL_law_508 rfl ?_
        refine z_iadd (pc := 509) x dL_law_509 ?_
        refine z_iald (pc := 510) x (t := 0) rfl dL_law_510 fun v510 => ?_
        refine z_call (pc := 511) (z_canV (pc := 511) (As := [zI (((v497).toUInt32 % 65536).toInt32), zI v504, zI v510]) (st := []) x (ci := 34) rfl (fun b => m_X6_isGiven hl (some b) (((v497).toUInt32 % 65536).toInt32) v504 v510) q3032 q3033 (x.2.2.2.2.1 _ q3034) q121 q3035 n_X6_isGiven ⟨by decide, by decide⟩ (Nat.le_of_ble_eq_true rfl) dL_law_511) (zv_I fun v511 => ?_) (fun q => zx_fail)
        refine z_istore (pc := 514) (lv' := [(7, zI v511), (6, zI v486), (0, zP a0), (1, zP a1), (2, zP a2), (3, zP a3), (4, zP a4), (5, zI a5)]) x dL_law_514 (Nat.le_of_ble_eq_true rfl) rfl ?_
        refine z_aload_n (pc := 516) x 4 dL_law_516 rfl rfl ?_
        refine z_call (pc := 517) (z_canV (pc := 517) (As := []) (st := []) x (ci := 34) rfl (fun b => m_X6_thrown hl (some b)) q2870 q2871 (x.2.2.2.2.1 _ q2872) q121 q2873 n_X6_thrown ⟨by decide, by decide⟩ (Nat.le_of_ble_eq_true rfl) dL_law_517) (zv_I fun v517 => ?_) (fun q => zx_fail)
        refine z_iload (pc := 520) x 1 dL_law_520 rfl ?_
        refine z_icmp_eq (pc := 522) (tgt := 527) x dL_law_522 rfl (fun _ => ?_) (fun _ => ?_)
        · refine z_iload (pc := 527) x 1 dL_law_527 rfl ?_
          refine z_if_ne (pc := 529) (tgt := 551) x dL_law_529 rfl (fun _ => ?_) (fun _ => ?_)
          · refine z_aload_n (pc := 532) x 5 dL_law_532 rfl rfl ?_
            refine z_iconst (pc := 533) x (v := (0 : Int32)) dL_law_533 rfl ?_
            refine z_lald (pc := 534) x (t := 3) rfl dL_law_534 fun v534 => ?_
            refine z_iload (pc := 535) x 0 dL_law_535 rfl ?_
            refine z_if_eq (pc := 537) (tgt := 544) x dL_law_537 rfl (fun _ => ?_) (fun _ => ?_)
            · refine z_lconst (pc := 544) x (v := (0 : Int64)) dL_law_544 rfl ?_
              exact z_sub [2, 3, 4, 5, 6, 7] rfl (w_L_law_545 x hl hret hnm htab h28 a0 a1 a2 a3 a4 a5 v534 (0 : Int64))
            · refine z_lconst (pc := 540) x (v := (1 : Int64)) dL_law_540 rfl ?_
              refine z_goto (pc := 541) (tgt := 545) x dL_law_541 rfl ?_
              exact z_sub [2, 3, 4, 5, 6, 7] rfl (w_L_law_545 x hl hret hnm htab h28 a0 a1 a2 a3 a4 a5 v534 (1 : Int64))
          · exact z_sub [2, 3, 4, 5, 6, 7] rfl (w_L_law_551 x hl hret hnm htab h28 a0 a1 a2 a3 a4 a5)
        · refine z_iconst (pc := 525) x (v := (0 : Int32)) dL_law_525 rfl ?_
          exact z_zret (pc := 526) x hret dL_law_526
      refine z_ite (fun e44_6 => ?_) (fun e44_6 => ?_)
      · refine z_tabIn (pc := 44) (tgt := 554) x (510) dL_law_44 e44_6 (by decide) (by decide) rfl rfl ?_
        refine z_aload_n (pc := 554) x 1 dL_law_554 rfl rfl ?_
        refine z_aload_n (pc := 555) x 0 dL_law_555 rfl rfl ?_
        refine z_iload (pc := 556) x 5 dL_law_556 rfl ?_
        refine z_iconst (pc := 558) x (v := (1 : Int32)) dL_law_558 rfl ?_
        refine z_iadd (pc := 559) x dL_law_559 ?_
        refine z_iald (pc := 560) x (t := 0) rfl dL_law_560 fun v560 => ?_
        refine z_i2c (pc := 561) x dL_law_561 ?_
        refine z_aload_n (pc := 562) x 0 dL_law_562 rfl rfl ?_
        refine z_iload (pc := 563) x 5 dL_law_563 rfl ?_
        refine z_iconst (pc := 565) x (v := (2 : Int32)) dL_law_565 rfl ?_
        refine z_iadd (pc := 566) x dL_law_566 ?_
        refine z_iald (pc := 567) x (t := 0) rfl dL_law_567 fun v567 => ?_
        refine z_aload_n (pc := 568) x 0 dL_law_568 rfl rfl ?_
        refine z_iload (pc := 569) x 5 dL_law_569 rfl ?_
        refine z_iconst (pc := 571) x (v := (3 : Int32)) dL_law_571 rfl ?_
        refine z_iadd (pc := 572) x dL_law_572 ?_
        refine z_iald (pc := 573) x (t := 0) rfl dL_law_573 fun v573 => ?_
        refine z_aload_n (pc := 574) x 3 dL_law_574 rfl rfl ?_
        refine z_call (pc := 575) (z_canSX (pc := 575) (As := [zP a1, zI (((v560).toUInt32 % 65536).toInt32), zI v567, zI v573, zP a3]) (st := []) x (m_X0_isTrue hl a1 (((v560).toUInt32 % 65536).toInt32) v567 v573 a3) q1742 q1743 q107 q1744 n_X0_isTrue ⟨by decide, by decide⟩ (Nat.le_of_ble_eq_true rfl) dL_law_575) (zv_I fun v575 => ?_) (fun q => zx_fail)
        refine z_istore (pc := 578) (lv' := [(6, zI v575), (0, zP a0), (1, zP a1), (2, zP a2), (3, zP a3), (4, zP a4), (5, zI a5)]) x dL_law_578 (Nat.le_of_ble_eq_true rfl) rfl ?_
        refine z_aload_n (pc := 580) x 3 dL_law_580 rfl rfl ?_
        refine z_aload_n (pc := 581) x 1 dL_law_581 rfl rfl ?_
        refine z_iload (pc := 582) x 6 dL_law_582 rfl ?_
        refine z_iconst (pc := 584) x (v := (1 : Int32)) dL_law_584 rfl ?_
        refine z_iadd (pc := 585) x dL_law_585 ?_
        refine z_iald (pc := 586) x (t := 0) rfl dL_law_586 fun v586 => ?_
        refine z_i2c (pc := 587) x dL_law_587 ?_
        refine z_aload_n (pc := 588) x 1 dL_law_588 rfl rfl ?_
        refine z_iload (pc := 589) x 6 dL_law_589 rfl ?_
        refine z_iconst (pc := 591) x (v := (2 : Int32)) dL_law_591 rfl ?_
        refine z_iadd (pc := 592) x dL_law_592 ?_
        refine z_iald (pc := 593) x (t := 0) rfl dL_law_593 fun v593 => ?_
        refine z_aload_n (pc := 594) x 1 dL_law_594 rfl rfl ?_
        refine z_iload (pc := 595) x 6 dL_law_595 rfl ?_
        refine z_iconst (pc := 597) x (v := (3 : Int32)) dL_law_597 rfl ?_
        refine z_iadd (pc := 598) x dL_law_598 ?_
        refine z_iald (pc := 599) x (t := 0) rfl dL_law_599 fun v599 => ?_
        refine z_call (pc := 600) (z_canV (pc := 600) (As := [zI (((v586).toUInt32 % 65536).toInt32), zI v593, zI v599]) (st := []) x (ci := 34) rfl (fun b => m_X6_isTrue hl (some b) (((v586).toUInt32 % 65536).toInt32) v593 v599) q3036 q3037 (x.2.2.2.2.1 _ q3038) q121 q3039 n_X6_isTrue ⟨by decide, by decide⟩ (Nat.le_of_ble_eq_true rfl) dL_law_600) (zv_I fun v600 => ?_) (fun q => zx_fail)
        refine z_istore (pc := 603) (lv' := [(7, zI v600), (6, zI v575), (0, zP a0), (1, zP a1), (2, zP a2), (3, zP a3), (4, zP a4), (5, zI a5)]) x dL_law_603 (Nat.le_of_ble_eq_true rfl) rfl ?_
        refine z_aload_n (pc := 605) x 4 dL_law_605 rfl rfl ?_
        refine z_call (pc := 606) (z_canV (pc := 606) (As := []) (st := []) x (ci := 34) rfl (fun b => m_X6_thrown hl (some b)) q2870 q2871 (x.2.2.2.2.1 _ q2872) q121 q2873 n_X6_thrown ⟨by decide, by decide⟩ (Nat.le_of_ble_eq_true rfl) dL_law_606) (zv_I fun v606 => ?_) (fun q => zx_fail)
        refine z_iload (pc := 609) x 1 dL_law_609 rfl ?_
        refine z_icmp_eq (pc := 611) (tgt := 616) x dL_law_611 rfl (fun _ => ?_) (fun _ => ?_)
        · refine z_iload (pc := 616) x 1 dL_law_616 rfl ?_
          refine z_if_ne (pc := 618) (tgt := 640) x dL_law_618 rfl (fun _ => ?_) (fun _ => ?_)
          · refine z_aload_n (pc := 621) x 5 dL_law_621 rfl rfl ?_
            refine z_iconst (pc := 622) x (v := (0 : Int32)) dL_law_622 rfl ?_
            refine z_lald (pc := 623) x (t := 3) rfl dL_law_623 fun v623 => ?_
            refine z_iload (pc := 624) x 0 dL_law_624 rfl ?_
            refine z_if_eq (pc := 626) (tgt := 633) x dL_law_626 rfl (fun _ => ?_) (fun _ => ?_)
            · refine z_lconst (pc := 633) x (v := (0 : Int64)) dL_law_633 rfl ?_
              exact z_sub [2, 3, 4, 5, 6, 7] rfl (w_L_law_634 x hl hret hnm htab h28 a0 a1 a2 a3 a4 a5 v623 (0 : Int64))
            · refine z_lconst (pc := 629) x (v := (1 : Int64)) dL_law_629 rfl ?_
              refine z_goto (pc := 630) (tgt := 634) x dL_law_630 rfl ?_
              exact z_sub [2, 3, 4, 5, 6, 7] rfl (w_L_law_634 x hl hret hnm htab h28 a0 a1 a2 a3 a4 a5 v623 (1 : Int64))
          · exact z_sub [2, 3, 4, 5, 6, 7] rfl (w_L_law_640 x hl hret hnm htab h28 a0 a1 a2 a3 a4 a5)
        · refine z_iconst (pc := 614) x (v := (0 : Int32)) dL_law_614 rfl ?_
          exact z_zret (pc := 615) x hret dL_law_615
      refine z_ite (fun e44_7 => ?_) (fun e44_7 => ?_)
      · refine z_tabIn (pc := 44) (tgt := 643) x (599) dL_law_44 e44_7 (by decide) (by decide) rfl rfl ?_
        refine z_aload_n (pc := 643) x 1 dL_law_643 rfl rfl ?_
        refine z_aload_n (pc := 644) x 0 dL_law_644 rfl rfl ?_
        refine z_iload (pc := 645) x 5 dL_law_645 rfl ?_
        refine z_iconst (pc := 647) x (v := (1 : Int32)) dL_law_647 rfl ?_
        refine z_iadd (pc := 648) x dL_law_648 ?_
        refine z_iald (pc := 649) x (t := 0) rfl dL_law_649 fun v649 => ?_
        refine z_i2c (pc := 650) x dL_law_650 ?_
        refine z_aload_n (pc := 651) x 0 dL_law_651 rfl rfl ?_
        refine z_iload (pc := 652) x 5 dL_law_652 rfl ?_
        refine z_iconst (pc := 654) x (v := (2 : Int32)) dL_law_654 rfl ?_
        refine z_iadd (pc := 655) x dL_law_655 ?_
        refine z_iald (pc := 656) x (t := 0) rfl dL_law_656 fun v656 => ?_
        refine z_aload_n (pc := 657) x 0 dL_law_657 rfl rfl ?_
        refine z_iload (pc := 658) x 5 dL_law_658 rfl ?_
        refine z_iconst (pc := 660) x (v := (3 : Int32)) dL_law_660 rfl ?_
        refine z_iadd (pc := 661) x dL_law_661 ?_
        refine z_iald (pc := 662) x (t := 0) rfl dL_law_662 fun v662 => ?_
        refine z_aload_n (pc := 663) x 3 dL_law_663 rfl rfl ?_
        refine z_call (pc := 664) (z_canSX (pc := 664) (As := [zP a1, zI (((v649).toUInt32 % 65536).toInt32), zI v656, zI v662, zP a3]) (st := []) x (m_X0_isTrueByTrying hl a1 (((v649).toUInt32 % 65536).toInt32) v656 v662 a3) q1749 q1750 q107 q1751 n_X0_isTrueByTrying ⟨by decide, by decide⟩ (Nat.le_of_ble_eq_true rfl) dL_law_664) (zv_I fun v664 => ?_) (fun q => zx_fail)
        refine z_istore (pc := 667) (lv' := [(6, zI v664), (0, zP a0), (1, zP a1), (2, zP a2), (3, zP a3), (4, zP a4), (5, zI a5)]) x dL_law_667 (Nat.le_of_ble_eq_true rfl) rfl ?_
        refine z_aload_n (pc := 669) x 3 dL_law_669 rfl rfl ?_
        refine z_aload_n (pc := 670) x 1 dL_law_670 rfl rfl ?_
        refine z_iload (pc := 671) x 6 dL_law_671 rfl ?_
        refine z_iconst (pc := 673) x (v := (1 : Int32)) dL_law_673 rfl ?_
        refine z_iadd (pc := 674) x dL_law_674 ?_
        refine z_iald (pc := 675) x (t := 0) rfl dL_law_675 fun v675 => ?_
        refine z_i2c (pc := 676) x dL_law_676 ?_
        refine z_aload_n (pc := 677) x 1 dL_law_677 rfl rfl ?_
        refine z_iload (pc := 678) x 6 dL_law_678 rfl ?_
        refine z_iconst (pc := 680) x (v := (2 : Int32)) dL_law_680 rfl ?_
        refine z_iadd (pc := 681) x dL_law_681 ?_
        refine z_iald (pc := 682) x (t := 0) rfl dL_law_682 fun v682 => ?_
        refine z_aload_n (pc := 683) x 1 dL_law_683 rfl rfl ?_
        refine z_iload (pc := 684) x 6 dL_law_684 rfl ?_
        refine z_iconst (pc := 686) x (v := (3 : Int32)) dL_law_686 rfl ?_
        refine z_iadd (pc := 687) x dL_law_687 ?_
        refine z_iald (pc := 688) x (t := 0) rfl dL_law_688 fun v688 => ?_
        refine z_call (pc := 689) (z_canV (pc := 689) (As := [zI (((v675).toUInt32 % 65536).toInt32), zI v682, zI v688]) (st := []) x (ci := 34) rfl (fun b => m_X6_isTrueByTrying hl (some b) (((v675).toUInt32 % 65536).toInt32) v682 v688) q3040 q3041 (x.2.2.2.2.1 _ q3042) q121 q3043 n_X6_isTrueByTrying ⟨by decide, by decide⟩ (Nat.le_of_ble_eq_true rfl) dL_law_689) (zv_I fun v689 => ?_) (fun q => zx_fail)
        refine z_istore (pc := 692) (lv' := [(7, zI v689), (6, zI v664), (0, zP a0), (1, zP a1), (2, zP a2), (3, zP a3), (4, zP a4), (5, zI a5)]) x dL_law_692 (Nat.le_of_ble_eq_true rfl) rfl ?_
        refine z_aload_n (pc := 694) x 4 dL_law_694 rfl rfl ?_
        refine z_call (pc := 695) (z_canV (pc := 695) (As := []) (st := []) x (ci := 34) rfl (fun b => m_X6_thrown hl (some b)) q2870 q2871 (x.2.2.2.2.1 _ q2872) q121 q2873 n_X6_thrown ⟨by decide, by decide⟩ (Nat.le_of_ble_eq_true rfl) dL_law_695) (zv_I fun v695 => ?_) (fun q => zx_fail)
        refine z_iload (pc := 698) x 1 dL_law_698 rfl ?_
        refine z_icmp_eq (pc := 700) (tgt := 705) x dL_law_700 rfl (fun _ => ?_) (fun _ => ?_)
        · refine z_iload (pc := 705) x 1 dL_law_705 rfl ?_
          refine z_if_ne (pc := 707) (tgt := 729) x dL_law_707 rfl (fun _ => ?_) (fun _ => ?_)
          · refine z_aload_n (pc := 710) x 5 dL_law_710 rfl rfl ?_
            refine z_iconst (pc := 711) x (v := (0 : Int32)) dL_law_711 rfl ?_
            refine z_lald (pc := 712) x (t := 3) rfl dL_law_712 fun v712 => ?_
            refine z_iload (pc := 713) x 0 dL_law_713 rfl ?_
            refine z_if_eq (pc := 715) (tgt := 722) x dL_law_715 rfl (fun _ => ?_) (fun _ => ?_)
            · refine z_lconst (pc := 722) x (v := (0 : Int64)) dL_law_722 rfl ?_
              exact z_sub [2, 3, 4, 5, 6, 7] rfl (w_L_law_723 x hl hret hnm htab h28 a0 a1 a2 a3 a4 a5 v712 (0 : Int64))
            · refine z_lconst (pc := 718) x (v := (1 : Int64)) dL_law_718 rfl ?_
              refine z_goto (pc := 719) (tgt := 723) x dL_law_719 rfl ?_
              exact z_sub [2, 3, 4, 5, 6, 7] rfl (w_L_law_723 x hl hret hnm htab h28 a0 a1 a2 a3 a4 a5 v712 (1 : Int64))
          · exact z_sub [2, 3, 4, 5, 6, 7] rfl (w_L_law_729 x hl hret hnm htab h28 a0 a1 a2 a3 a4 a5)
        · refine z_iconst (pc := 703) x (v := (0 : Int32)) dL_law_703 rfl ?_
          exact z_zret (pc := 704) x hret dL_law_704
      refine z_ite (fun e44_8 => ?_) (fun e44_8 => ?_)
      · refine z_tabIn (pc := 44) (tgt := 732) x (688) dL_law_44 e44_8 (by decide) (by decide) rfl rfl ?_
        refine z_aload_n (pc := 732) x 1 dL_law_732 rfl rfl ?_
        refine z_aload_n (pc := 733) x 0 dL_law_733 rfl rfl ?_
        refine z_iload (pc := 734) x 5 dL_law_734 rfl ?_
        refine z_iconst (pc := 736) x (v := (1 : Int32)) dL_law_736 rfl ?_
        refine z_iadd (pc := 737) x dL_law_737 ?_
        refine z_iald (pc := 738) x (t := 0) rfl dL_law_738 fun v738 => ?_
        refine z_i2c (pc := 739) x dL_law_739 ?_
        refine z_aload_n (pc := 740) x 3 dL_law_740 rfl rfl ?_
        refine z_call (pc := 741) (z_canSX (pc := 741) (As := [zP a1, zI (((v738).toUInt32 % 65536).toInt32), zP a3]) (st := []) x (m_X0_trueCount hl a1 (((v738).toUInt32 % 65536).toInt32) a3) q1757 q1758 q107 q1759 n_X0_trueCount ⟨by decide, by decide⟩ (Nat.le_of_ble_eq_true rfl) dL_law_741) (zv_I fun v741 => ?_) (fun q => zx_fail)
        refine z_istore (pc := 744) (lv' := [(6, zI v741), (0, zP a0), (1, zP a1), (2, zP a2), (3, zP a3), (4, zP a4), (5, zI a5)]) x dL_law_744 (Nat.le_of_ble_eq_true rfl) rfl ?_
        refine z_aload_n (pc := 746) x 3 dL_law_746 rfl rfl ?_
        refine z_aload_n (pc := 747) x 1 dL_law_747 rfl rfl ?_
        refine z_iload (pc := 748) x 6 dL_law_748 rfl ?_
        refine z_iconst (pc := 750) x (v := (1 : Int32)) dL_law_750 rfl ?_
        refine z_iadd (pc := 751) x dL_law_751 ?_
        refine z_iald (pc := 752) x (t := 0) rfl dL_law_752 fun v752 => ?_
        refine z_i2c (pc := 753) x dL_law_753 ?_
        refine z_call (pc := 754) (z_canV (pc := 754) (As := [zI (((v752).toUInt32 % 65536).toInt32)]) (st := []) x (ci := 34) rfl (fun b => m_X6_trueCount hl (some b) (((v752).toUInt32 % 65536).toInt32)) q3045 q3046 (x.2.2.2.2.1 _ q3047) q121 q3048 n_X6_trueCount ⟨by decide, by decide⟩ (Nat.le_of_ble_eq_true rfl) dL_law_754) (zv_I fun v754 => ?_) (fun q => zx_fail)
        refine z_istore (pc := 757) (lv' := [(7, zI v754), (6, zI v741), (0, zP a0), (1, zP a1), (2, zP a2), (3, zP a3), (4, zP a4), (5, zI a5)]) x dL_law_757 (Nat.le_of_ble_eq_true rfl) rfl ?_
        refine z_aload_n (pc := 759) x 4 dL_law_759 rfl rfl ?_
        refine z_call (pc := 760) (z_canV (pc := 760) (As := []) (st := []) x (ci := 34) rfl (fun b => m_X6_thrown hl (some b)) q2870 q2871 (x.2.2.2.2.1 _ q2872) q121 q2873 n_X6_thrown ⟨by decide, by decide⟩ (Nat.le_of_ble_eq_true rfl) dL_law_760) (zv_I fun v760 => ?_) (fun q => zx_fail)
        refine z_iload (pc := 763) x 1 dL_law_763 rfl ?_
        refine z_icmp_eq (pc := 765) (tgt := 770) x dL_law_765 rfl (fun _ => ?_) (fun _ => ?_)
        · refine z_iload (pc := 770) x 1 dL_law_770 rfl ?_
          refine z_if_ne (pc := 772) (tgt := 787) x dL_law_772 rfl (fun _ => ?_) (fun _ => ?_)
          · refine z_aload_n (pc := 775) x 5 dL_law_775 rfl rfl ?_
            refine z_iconst (pc := 776) x (v := (0 : Int32)) dL_law_776 rfl ?_
            refine z_lald (pc := 777) x (t := 3) rfl dL_law_777 fun v777 => ?_
            refine z_iload (pc := 778) x 0 dL_law_778 rfl ?_
            refine z_i2l (pc := 780) x dL_law_780 ?_
            refine z_lcmp (pc := 781) x dL_law_781 ?_
            refine z_if_eq (pc := 782) (tgt := 787) x dL_law_782 rfl (fun _ => ?_) (fun _ => ?_)
            · exact z_sub [2, 3, 4, 5, 6, 7] rfl (w_L_law_787 x hl hret hnm htab h28 a0 a1 a2 a3 a4 a5)
            · refine z_iconst (pc := 785) x (v := (0 : Int32)) dL_law_785 rfl ?_
              exact z_zret (pc := 786) x hret dL_law_786
          · exact z_sub [2, 3, 4, 5, 6, 7] rfl (w_L_law_787 x hl hret hnm htab h28 a0 a1 a2 a3 a4 a5)
        · refine z_iconst (pc := 768) x (v := (0 : Int32)) dL_law_768 rfl ?_
          exact z_zret (pc := 769) x hret dL_law_769
      refine z_ite (fun e44_9 => ?_) (fun e44_9 => ?_)
      · refine z_tabIn (pc := 44) (tgt := 790) x (746) dL_law_44 e44_9 (by decide) (by decide) rfl rfl ?_
        refine z_aload_n (pc := 790) x 1 dL_law_790 rfl rfl ?_
        refine z_call (pc := 791) (z_canV (pc := 791) (As := []) (st := []) x (ci := 16) rfl (fun b => m_X1_allTrue hl (some b)) q364 q365 (x.2.2.2.2.1 _ q366) q108 q367 n_X1_allTrue ⟨by decide, by decide⟩ (Nat.le_of_ble_eq_true rfl) dL_law_791) (zv_I fun v791 => ?_) (fun q => zx_fail)
        refine z_aload_n (pc := 794) x 2 dL_law_794 rfl rfl ?_
        refine z_call (pc := 795) (z_canV (pc := 795) (As := []) (st := [zI v791]) x (ci := 34) rfl (fun b => m_X6_allTrue hl (some b)) q3059 q3060 (x.2.2.2.2.1 _ q3061) q121 q3062 n_X6_allTrue ⟨by decide, by decide⟩ (Nat.le_of_ble_eq_true rfl) dL_law_795) (zv_I fun v795 => ?_) (fun q => zx_fail)
        refine z_icmp_eq (pc := 798) (tgt := 2702) x dL_law_798 rfl (fun _ => ?_) (fun _ => ?_)
        · exact z_sub [0, 1, 2, 3, 4, 5] rfl (w_L_law_2702 x hl hret hnm htab h28 a0 a1 a2 a3 a4 a5)
        · refine z_iconst (pc := 801) x (v := (0 : Int32)) dL_law_801 rfl ?_
          exact z_zret (pc := 802) x hret dL_law_802
      refine z_ite (fun e44_10 => ?_) (fun e44_10 => ?_)
      · refine z_tabIn (pc := 44) (tgt := 803) x (759) dL_law_44 e44_10 (by decide) (by decide) rfl rfl ?_
        refine z_aload_n (pc := 803) x 1 dL_law_803 rfl rfl ?_
        refine z_aload_n (pc := 804) x 0 dL_law_804 rfl rfl ?_
        refine z_iload (pc := 805) x 5 dL_law_805 rfl ?_
        refine z_iconst (pc := 807) x (v := (1 : Int32)) dL_law_807 rfl ?_
        refine z_iadd (pc := 808) x dL_law_808 ?_
        refine z_iald (pc := 809) x (t := 0) rfl dL_law_809 fun v809 => ?_
        refine z_i2c (pc := 810) x dL_law_810 ?_
        refine z_aload_n (pc := 811) x 0 dL_law_811 rfl rfl ?_
        refine z_iload (pc := 812) x 5 dL_law_812 rfl ?_
        refine z_iconst (pc := 814) x (v := (2 : Int32)) dL_law_814 rfl ?_
        refine z_iadd (pc := 815) x dL_law_815 ?_
        refine z_iald (pc := 816) x (t := 0) rfl dL_law_816 fun v816 => ?_
        refine z_aload_n (pc := 817) x 0 dL_law_817 rfl rfl ?_
        refine z_iload (pc := 818) x 5 dL_law_818 rfl ?_
        refine z_iconst (pc := 820) x (v := (3 : Int32)) dL_law_820 rfl ?_
        refine z_iadd (pc := 821) x dL_law_821 ?_
        refine z_iald (pc := 822) x (t := 0) rfl dL_law_822 fun v822 => ?_
        refine z_aload_n (pc := 823) x 3 dL_law_823 rfl rfl ?_
        refine z_call (pc := 824) (z_canSX (pc := 824) (As := [zP a1, zI (((v809).toUInt32 % 65536).toInt32), zI v816, zI v822, zP a3]) (st := []) x (m_X0_gainedWithout hl a1 (((v809).toUInt32 % 65536).toInt32) v816 v822 a3) q1765 q1766 q107 q1767 n_X0_gainedWithout ⟨by decide, by decide⟩ (Nat.le_of_ble_eq_true rfl) dL_law_824) (zv_I fun v824 => ?_) (fun q => zx_fail)
        refine z_istore (pc := 827) (lv' := [(6, zI v824), (0, zP a0), (1, zP a1), (2, zP a2), (3, zP a3), (4, zP a4), (5, zI a5)]) x dL_law_827 (Nat.le_of_ble_eq_true rfl) rfl ?_
        refine z_aload_n (pc := 829) x 3 dL_law_829 rfl rfl ?_
        refine z_aload_n (pc := 830) x 1 dL_law_830 rfl rfl ?_
        refine z_iload (pc := 831) x 6 dL_law_831 rfl ?_
        refine z_iconst (pc := 833) x (v := (1 : Int32)) dL_law_833 rfl ?_
        refine z_iadd (pc := 834) x dL_law_834 ?_
        refine z_iald (pc := 835) x (t := 0) rfl dL_law_835 fun v835 => ?_
        refine z_i2c (pc := 836) x dL_law_836 ?_
        refine z_aload_n (pc := 837) x 1 dL_law_837 rfl rfl ?_
        refine z_iload (pc := 838) x 6 dL_law_838 rfl ?_
        refine z_iconst (pc := 840) x (v := (2 : Int32)) dL_law_840 rfl ?_
        refine z_iadd (pc := 841) x dL_law_841 ?_
        refine z_iald (pc := 842) x (t := 0) rfl dL_law_842 fun v842 => ?_
        refine z_aload_n (pc := 843) x 1 dL_law_843 rfl rfl ?_
        refine z_iload (pc := 844) x 6 dL_law_844 rfl ?_
        refine z_iconst (pc := 846) x (v := (3 : Int32)) dL_law_846 rfl ?_
        refine z_iadd (pc := 847) x dL_law_847 ?_
        refine z_iald (pc := 848) x (t := 0) rfl dL_law_848 fun v848 => ?_
        refine z_call (pc := 849) (z_canV (pc := 849) (As := [zI (((v835).toUInt32 % 65536).toInt32), zI v842, zI v848]) (st := []) x (ci := 34) rfl (fun b => m_X6_gainedWithout hl (some b) (((v835).toUInt32 % 65536).toInt32) v842 v848) q3063 q3064 (x.2.2.2.2.1 _ q3065) q121 q3066 n_X6_gainedWithout ⟨by decide, by decide⟩ (Nat.le_of_ble_eq_true rfl) dL_law_849) (zv_I fun v849 => ?_) (fun q => zx_fail)
        refine z_istore (pc := 852) (lv' := [(7, zI v849), (6, zI v824), (0, zP a0), (1, zP a1), (2, zP a2), (3, zP a3), (4, zP a4), (5, zI a5)]) x dL_law_852 (Nat.le_of_ble_eq_true rfl) rfl ?_
        refine z_aload_n (pc := 854) x 4 dL_law_854 rfl rfl ?_
        refine z_call (pc := 855) (z_canV (pc := 855) (As := []) (st := []) x (ci := 34) rfl (fun b => m_X6_thrown hl (some b)) q2870 q2871 (x.2.2.2.2.1 _ q2872) q121 q2873 n_X6_thrown ⟨by decide, by decide⟩ (Nat.le_of_ble_eq_true rfl) dL_law_855) (zv_I fun v855 => ?_) (fun q => zx_fail)
        refine z_iload (pc := 858) x 1 dL_law_858 rfl ?_
        refine z_icmp_eq (pc := 860) (tgt := 865) x dL_law_860 rfl (fun _ => ?_) (fun _ => ?_)
        · refine z_iload (pc := 865) x 1 dL_law_865 rfl ?_
          refine z_if_ne (pc := 867) (tgt := 882) x dL_law_867 rfl (fun _ => ?_) (fun _ => ?_)
          · refine z_aload_n (pc := 870) x 5 dL_law_870 rfl rfl ?_
            refine z_iconst (pc := 871) x (v := (0 : Int32)) dL_law_871 rfl ?_
            refine z_lald (pc := 872) x (t := 3) rfl dL_law_872 fun v872 => ?_
            refine z_iload (pc := 873) x 0 dL_law_873 rfl ?_
            refine z_i2l (pc := 875) x dL_law_875 ?_
            refine z_lcmp (pc := 876) x dL_law_876 ?_
            refine z_if_eq (pc := 877) (tgt := 882) x dL_law_877 rfl (fun _ => ?_) (fun _ => ?_)
            · exact z_sub [2, 3, 4, 5, 6, 7] rfl (w_L_law_882 x hl hret hnm htab h28 a0 a1 a2 a3 a4 a5)
            · refine z_iconst (pc := 880) x (v := (0 : Int32)) dL_law_880 rfl ?_
              exact z_zret (pc := 881) x hret dL_law_881
          · exact z_sub [2, 3, 4, 5, 6, 7] rfl (w_L_law_882 x hl hret hnm htab h28 a0 a1 a2 a3 a4 a5)
        · refine z_iconst (pc := 863) x (v := (0 : Int32)) dL_law_863 rfl ?_
          exact z_zret (pc := 864) x hret dL_law_864
      refine z_ite (fun e44_11 => ?_) (fun e44_11 => ?_)
      · refine z_tabIn (pc := 44) (tgt := 885) x (841) dL_law_44 e44_11 (by decide) (by decide) rfl rfl ?_
        refine z_aload_n (pc := 885) x 1 dL_law_885 rfl rfl ?_
        refine z_aload_n (pc := 886) x 0 dL_law_886 rfl rfl ?_
        refine z_iload (pc := 887) x 5 dL_law_887 rfl ?_
        refine z_iconst (pc := 889) x (v := (1 : Int32)) dL_law_889 rfl ?_
        refine z_iadd (pc := 890) x dL_law_890 ?_
        refine z_iald (pc := 891) x (t := 0) rfl dL_law_891 fun v891 => ?_
        refine z_i2c (pc := 892) x dL_law_892 ?_
        refine z_aload_n (pc := 893) x 0 dL_law_893 rfl rfl ?_
        refine z_iload (pc := 894) x 5 dL_law_894 rfl ?_
        refine z_iconst (pc := 896) x (v := (2 : Int32)) dL_law_896 rfl ?_
        refine z_iadd (pc := 897) x dL_law_897 ?_
        refine z_iald (pc := 898) x (t := 0) rfl dL_law_898 fun v898 => ?_
        refine z_aload_n (pc := 899) x 3 dL_law_899 rfl rfl ?_
        refine z_call (pc := 900) (z_canSX (pc := 900) (As := [zP a1, zI (((v891).toUInt32 % 65536).toInt32), zI v898, zP a3]) (st := []) x (m_X0_constantAtRank hl a1 (((v891).toUInt32 % 65536).toInt32) v898 a3) q1774 q1775 q107 q1776 n_X0_constantAtRank ⟨by decide, by decide⟩ (Nat.le_of_ble_eq_true rfl) dL_law_900) (zv_I fun v900 => ?_) (fun q => zx_fail)
        refine z_istore (pc := 903) (lv' := [(6, zI v900), (0, zP a0), (1, zP a1), (2, zP a2), (3, zP a3), (4, zP a4), (5, zI a5)]) x dL_law_903 (Nat.le_of_ble_eq_true rfl) rfl ?_
        refine z_aload_n (pc := 905) x 3 dL_law_905 rfl rfl ?_
        refine z_aload_n (pc := 906) x 1 dL_law_906 rfl rfl ?_
        refine z_iload (pc := 907) x 6 dL_law_907 rfl ?_
        refine z_iconst (pc := 909) x (v := (1 : Int32)) dL_law_909 rfl ?_
        refine z_iadd (pc := 910) x dL_law_910 ?_
        refine z_iald (pc := 911) x (t := 0) rfl dL_law_911 fun v911 => ?_
        refine z_i2c (pc := 912) x dL_law_912 ?_
        refine z_aload_n (pc := 913) x 1 dL_law_913 rfl rfl ?_
        refine z_iload (pc := 914) x 6 dL_law_914 rfl ?_
        refine z_iconst (pc := 916) x (v := (2 : Int32)) dL_law_916 rfl ?_
        refine z_iadd (pc := 917) x dL_law_917 ?_
        refine z_iald (pc := 918) x (t := 0) rfl dL_law_918 fun v918 => ?_
        refine z_call (pc := 919) (z_canV (pc := 919) (As := [zI (((v911).toUInt32 % 65536).toInt32), zI v918]) (st := []) x (ci := 34) rfl (fun b => m_X6_constantAtRank hl (some b) (((v911).toUInt32 % 65536).toInt32) v918) q3067 q3068 (x.2.2.2.2.1 _ q3069) q121 q3070 n_X6_constantAtRank ⟨by decide, by decide⟩ (Nat.le_of_ble_eq_true rfl) dL_law_919) (zv_I fun v919 => ?_) (fun q => zx_fail)
        refine z_istore (pc := 922) (lv' := [(7, zI v919), (6, zI v900), (0, zP a0), (1, zP a1), (2, zP a2), (3, zP a3), (4, zP a4), (5, zI a5)]) x dL_law_922 (Nat.le_of_ble_eq_true rfl) rfl ?_
        refine z_aload_n (pc := 924) x 4 dL_law_924 rfl rfl ?_
        refine z_call (pc := 925) (z_canV (pc := 925) (As := []) (st := []) x (ci := 34) rfl (fun b => m_X6_thrown hl (some b)) q2870 q2871 (x.2.2.2.2.1 _ q2872) q121 q2873 n_X6_thrown ⟨by decide, by decide⟩ (Nat.le_of_ble_eq_true rfl) dL_law_925) (zv_I fun v925 => ?_) (fun q => zx_fail)
        refine z_iload (pc := 928) x 1 dL_law_928 rfl ?_
        refine z_icmp_eq (pc := 930) (tgt := 935) x dL_law_930 rfl (fun _ => ?_) (fun _ => ?_)
        · refine z_iload (pc := 935) x 1 dL_law_935 rfl ?_
          refine z_if_ne (pc := 937) (tgt := 952) x dL_law_937 rfl (fun _ => ?_) (fun _ => ?_)
          · refine z_aload_n (pc := 940) x 5 dL_law_940 rfl rfl ?_
            refine z_iconst (pc := 941) x (v := (0 : Int32)) dL_law_941 rfl ?_
            refine z_lald (pc := 942) x (t := 3) rfl dL_law_942 fun v942 => ?_
            refine z_iload (pc := 943) x 0 dL_law_943 rfl ?_
            refine z_i2l (pc := 945) x dL_law_945 ?_
            refine z_lcmp (pc := 946) x dL_law_946 ?_
            refine z_if_eq (pc := 947) (tgt := 952) x dL_law_947 rfl (fun _ => ?_) (fun _ => ?_)
            · exact z_sub [2, 3, 4, 5, 6, 7] rfl (w_L_law_952 x hl hret hnm htab h28 a0 a1 a2 a3 a4 a5)
            · refine z_iconst (pc := 950) x (v := (0 : Int32)) dL_law_950 rfl ?_
              exact z_zret (pc := 951) x hret dL_law_951
          · exact z_sub [2, 3, 4, 5, 6, 7] rfl (w_L_law_952 x hl hret hnm htab h28 a0 a1 a2 a3 a4 a5)
        · refine z_iconst (pc := 933) x (v := (0 : Int32)) dL_law_933 rfl ?_
          exact z_zret (pc := 934) x hret dL_law_934
      refine z_ite (fun e44_12 => ?_) (fun e44_12 => ?_)
      · refine z_tabIn (pc := 44) (tgt := 955) x (911) dL_law_44 e44_12 (by decide) (by decide) rfl rfl ?_
        refine z_aload_n (pc := 955) x 1 dL_law_955 rfl rfl ?_
        refine z_aload_n (pc := 956) x 0 dL_law_956 rfl rfl ?_
        refine z_iload (pc := 957) x 5 dL_law_957 rfl ?_
        refine z_iconst (pc := 959) x (v := (1 : Int32)) dL_law_959 rfl ?_
        refine z_iadd (pc := 960) x dL_law_960 ?_
        refine z_iald (pc := 961) x (t := 0) rfl dL_law_961 fun v961 => ?_
        refine z_i2c (pc := 962) x dL_law_962 ?_
        refine z_aload_n (pc := 963) x 3 dL_law_963 rfl rfl ?_
        refine z_call (pc := 964) (z_canSX (pc := 964) (As := [zP a1, zI (((v961).toUInt32 % 65536).toInt32), zP a3]) (st := []) x (m_X0_greatest hl a1 (((v961).toUInt32 % 65536).toInt32) a3) q1794 q1795 q107 q1796 n_X0_greatest ⟨by decide, by decide⟩ (Nat.le_of_ble_eq_true rfl) dL_law_964) (zv_I fun v964 => ?_) (fun q => zx_fail)
        refine z_istore (pc := 967) (lv' := [(6, zI v964), (0, zP a0), (1, zP a1), (2, zP a2), (3, zP a3), (4, zP a4), (5, zI a5)]) x dL_law_967 (Nat.le_of_ble_eq_true rfl) rfl ?_
        refine z_aload_n (pc := 969) x 3 dL_law_969 rfl rfl ?_
        refine z_aload_n (pc := 970) x 1 dL_law_970 rfl rfl ?_
        refine z_iload (pc := 971) x 6 dL_law_971 rfl ?_
        refine z_iconst (pc := 973) x (v := (1 : Int32)) dL_law_973 rfl ?_
        refine z_iadd (pc := 974) x dL_law_974 ?_
        refine z_iald (pc := 975) x (t := 0) rfl dL_law_975 fun v975 => ?_
        refine z_i2c (pc := 976) x dL_law_976 ?_
        refine z_call (pc := 977) (z_canV (pc := 977) (As := [zI (((v975).toUInt32 % 65536).toInt32)]) (st := []) x (ci := 34) rfl (fun b => m_X6_greatest hl (some b) (((v975).toUInt32 % 65536).toInt32)) q3075 q3076 (x.2.2.2.2.1 _ q3077) q121 q3078 n_X6_greatest ⟨by decide, by decide⟩ (Nat.le_of_ble_eq_true rfl) dL_law_977) (zv_I fun v977 => ?_) (fun q => zx_fail)
        refine z_istore (pc := 980) (lv' := [(7, zI v977), (6, zI v964), (0, zP a0), (1, zP a1), (2, zP a2), (3, zP a3), (4, zP a4), (5, zI a5)]) x dL_law_980 (Nat.le_of_ble_eq_true rfl) rfl ?_
        refine z_aload_n (pc := 982) x 4 dL_law_982 rfl rfl ?_
        refine z_call (pc := 983) (z_canV (pc := 983) (As := []) (st := []) x (ci := 34) rfl (fun b => m_X6_thrown hl (some b)) q2870 q2871 (x.2.2.2.2.1 _ q2872) q121 q2873 n_X6_thrown ⟨by decide, by decide⟩ (Nat.le_of_ble_eq_true rfl) dL_law_983) (zv_I fun v983 => ?_) (fun q => zx_fail)
        refine z_iload (pc := 986) x 1 dL_law_986 rfl ?_
        refine z_icmp_eq (pc := 988) (tgt := 993) x dL_law_988 rfl (fun _ => ?_) (fun _ => ?_)
        · refine z_iload (pc := 993) x 1 dL_law_993 rfl ?_
          refine z_if_ne (pc := 995) (tgt := 1010) x dL_law_995 rfl (fun _ => ?_) (fun _ => ?_)
          · refine z_aload_n (pc := 998) x 5 dL_law_998 rfl rfl ?_
            refine z_iconst (pc := 999) x (v := (0 : Int32)) dL_law_999 rfl ?_
            refine z_lald (pc := 1000) x (t := 3) rfl dL_law_1000 fun v1000 => ?_
            refine z_iload (pc := 1001) x 0 dL_law_1001 rfl ?_
            refine z_i2l (pc := 1003) x dL_law_1003 ?_
            refine z_lcmp (pc := 1004) x dL_law_1004 ?_
            refine z_if_eq (pc := 1005) (tgt := 1010) x dL_law_1005 rfl (fun _ => ?_) (fun _ => ?_)
            · exact z_sub [2, 3, 4, 5, 6, 7] rfl (w_L_law_1010 x hl hret hnm htab h28 a0 a1 a2 a3 a4 a5)
            · refine z_iconst (pc := 1008) x (v := (0 : Int32)) dL_law_1008 rfl ?_
              exact z_zret (pc := 1009) x hret dL_law_1009
          · exact z_sub [2, 3, 4, 5, 6, 7] rfl (w_L_law_1010 x hl hret hnm htab h28 a0 a1 a2 a3 a4 a5)
        · refine z_iconst (pc := 991) x (v := (0 : Int32)) dL_law_991 rfl ?_
          exact z_zret (pc := 992) x hret dL_law_992
      refine z_ite (fun e44_13 => ?_) (fun e44_13 => ?_)
      · refine z_tabIn (pc := 44) (tgt := 1013) x (969) dL_law_44 e44_13 (by decide) (by decide) rfl rfl ?_
        refine z_aload_n (pc := 1013) x 1 dL_law_1013 rfl rfl ?_
        refine z_aload_n (pc := 1014) x 0 dL_law_1014 rfl rfl ?_
        refine z_iload (pc := 1015) x 5 dL_law_1015 rfl ?_
        refine z_iconst (pc := 1017) x (v := (1 : Int32)) dL_law_1017 rfl ?_
        refine z_iadd (pc := 1018) x dL_law_1018 ?_
        refine z_iald (pc := 1019) x (t := 0) rfl dL_law_1019 fun v1019 => ?_
        refine z_i2c (pc := 1020) x dL_law_1020 ?_
        refine z_aload_n (pc := 1021) x 0 dL_law_1021 rfl rfl ?_
        refine z_iload (pc := 1022) x 5 dL_law_1022 rfl ?_
        refine z_iconst (pc := 1024) x (v := (2 : Int32)) dL_law_1024 rfl ?_
        refine z_iadd (pc := 1025) x dL_law_1025 ?_
        refine z_iald (pc := 1026) x (t := 0) rfl dL_law_1026 fun v1026 => ?_
        refine z_aload_n (pc := 1027) x 0 dL_law_1027 rfl rfl ?_
        refine z_iload (pc := 1028) x 5 dL_law_1028 rfl ?_
        refine z_iconst (pc := 1030) x (v := (3 : Int32)) dL_law_1030 rfl ?_
        refine z_iadd (pc := 1031) x dL_law_1031 ?_
        refine z_iald (pc := 1032) x (t := 0) rfl dL_law_1032 fun v1032 => ?_
        refine z_aload_n (pc := 1033) x 3 dL_law_1033 rfl rfl ?_
        refine z_call (pc := 1034) (z_canSX (pc := 1034) (As := [zP a1, zI (((v1019).toUInt32 % 65536).toInt32), zI v1026, zI v1032, zP a3]) (st := []) x (m_X0_height hl a1 (((v1019).toUInt32 % 65536).toInt32) v1026 v1032 a3) q1806 q1807 q107 q1808 n_X0_height ⟨by decide, by decide⟩ (Nat.le_of_ble_eq_true rfl) dL_law_1034) (zv_I fun v1034 => ?_) (fun q => zx_fail)
        refine z_istore (pc := 1037) (lv' := [(6, zI v1034), (0, zP a0), (1, zP a1), (2, zP a2), (3, zP a3), (4, zP a4), (5, zI a5)]) x dL_law_1037 (Nat.le_of_ble_eq_true rfl) rfl ?_
        refine z_aload_n (pc := 1039) x 3 dL_law_1039 rfl rfl ?_
        refine z_aload_n (pc := 1040) x 1 dL_law_1040 rfl rfl ?_
        refine z_iload (pc := 1041) x 6 dL_law_1041 rfl ?_
        refine z_iconst (pc := 1043) x (v := (1 : Int32)) dL_law_1043 rfl ?_
        refine z_iadd (pc := 1044) x dL_law_1044 ?_
        refine z_iald (pc := 1045) x (t := 0) rfl dL_law_1045 fun v1045 => ?_
        refine z_i2c (pc := 1046) x dL_law_1046 ?_
        refine z_aload_n (pc := 1047) x 1 dL_law_1047 rfl rfl ?_
        refine z_iload (pc := 1048) x 6 dL_law_1048 rfl ?_
        refine z_iconst (pc := 1050) x (v := (2 : Int32)) dL_law_1050 rfl ?_
        refine z_iadd (pc := 1051) x dL_law_1051 ?_
        refine z_iald (pc := 1052) x (t := 0) rfl dL_law_1052 fun v1052 => ?_
        refine z_aload_n (pc := 1053) x 1 dL_law_1053 rfl rfl ?_
        refine z_iload (pc := 1054) x 6 dL_law_1054 rfl ?_
        refine z_iconst (pc := 1056) x (v := (3 : Int32)) dL_law_1056 rfl ?_
        refine z_iadd (pc := 1057) x dL_law_1057 ?_
        refine z_iald (pc := 1058) x (t := 0) rfl dL_law_1058 fun v1058 => ?_
        refine z_call (pc := 1059) (z_canV (pc := 1059) (As := [zI (((v1045).toUInt32 % 65536).toInt32), zI v1052, zI v1058]) (st := []) x (ci := 34) rfl (fun b => m_X6_height hl (some b) (((v1045).toUInt32 % 65536).toInt32) v1052 v1058) q3080 q3081 (x.2.2.2.2.1 _ q3082) q121 q3083 n_X6_height ⟨by decide, by decide⟩ (Nat.le_of_ble_eq_true rfl) dL_law_1059) (zv_I fun v1059 => ?_) (fun q => zx_fail)
        refine z_istore (pc := 1062) (lv' := [(7, zI v1059), (6, zI v1034), (0, zP a0), (1, zP a1), (2, zP a2), (3, zP a3), (4, zP a4), (5, zI a5)]) x dL_law_1062 (Nat.le_of_ble_eq_true rfl) rfl ?_
        refine z_aload_n (pc := 1064) x 4 dL_law_1064 rfl rfl ?_
        refine z_call (pc := 1065) (z_canV (pc := 1065) (As := []) (st := []) x (ci := 34) rfl (fun b => m_X6_thrown hl (some b)) q2870 q2871 (x.2.2.2.2.1 _ q2872) q121 q2873 n_X6_thrown ⟨by decide, by decide⟩ (Nat.le_of_ble_eq_true rfl) dL_law_1065) (zv_I fun v1065 => ?_) (fun q => zx_fail)
        refine z_iload (pc := 1068) x 1 dL_law_1068 rfl ?_
        refine z_icmp_eq (pc := 1070) (tgt := 1075) x dL_law_1070 rfl (fun _ => ?_) (fun _ => ?_)
        · refine z_iload (pc := 1075) x 1 dL_law_1075 rfl ?_
          refine z_if_ne (pc := 1077) (tgt := 1092) x dL_law_1077 rfl (fun _ => ?_) (fun _ => ?_)
          · refine z_aload_n (pc := 1080) x 5 dL_law_1080 rfl rfl ?_
            refine z_iconst (pc := 1081) x (v := (0 : Int32)) dL_law_1081 rfl ?_
            refine z_lald (pc := 1082) x (t := 3) rfl dL_law_1082 fun v1082 => ?_
            refine z_iload (pc := 1083) x 0 dL_law_1083 rfl ?_
            refine z_i2l (pc := 1085) x dL_law_1085 ?_
            refine z_lcmp (pc := 1086) x dL_law_1086 ?_
            refine z_if_eq (pc := 1087) (tgt := 1092) x dL_law_1087 rfl (fun _ => ?_) (fun _ => ?_)
            · exact z_sub [2, 3, 4, 5, 6, 7] rfl (w_L_law_1092 x hl hret hnm htab h28 a0 a1 a2 a3 a4 a5)
            · refine z_iconst (pc := 1090) x (v := (0 : Int32)) dL_law_1090 rfl ?_
              exact z_zret (pc := 1091) x hret dL_law_1091
          · exact z_sub [2, 3, 4, 5, 6, 7] rfl (w_L_law_1092 x hl hret hnm htab h28 a0 a1 a2 a3 a4 a5)
        · refine z_iconst (pc := 1073) x (v := (0 : Int32)) dL_law_1073 rfl ?_
          exact z_zret (pc := 1074) x hret dL_law_1074
      refine z_ite (fun e44_14 => ?_) (fun e44_14 => ?_)
      · refine z_tabIn (pc := 44) (tgt := 1095) x (1051) dL_law_44 e44_14 (by decide) (by decide) rfl rfl ?_
        refine z_aload_n (pc := 1095) x 1 dL_law_1095 rfl rfl ?_
        refine z_aload_n (pc := 1096) x 0 dL_law_1096 rfl rfl ?_
        refine z_iload (pc := 1097) x 5 dL_law_1097 rfl ?_
        refine z_iconst (pc := 1099) x (v := (1 : Int32)) dL_law_1099 rfl ?_
        refine z_iadd (pc := 1100) x dL_law_1100 ?_
        refine z_iald (pc := 1101) x (t := 0) rfl dL_law_1101 fun v1101 => ?_
        refine z_i2c (pc := 1102) x dL_law_1102 ?_
        refine z_aload_n (pc := 1103) x 0 dL_law_1103 rfl rfl ?_
        refine z_iload (pc := 1104) x 5 dL_law_1104 rfl ?_
        refine z_iconst (pc := 1106) x (v := (2 : Int32)) dL_law_1106 rfl ?_
        refine z_iadd (pc := 1107) x dL_law_1107 ?_
        refine z_iald (pc := 1108) x (t := 0) rfl dL_law_1108 fun v1108 => ?_
        refine z_aload_n (pc := 1109) x 0 dL_law_1109 rfl rfl ?_
        refine z_iload (pc := 1110) x 5 dL_law_1110 rfl ?_
        refine z_iconst (pc := 1112) x (v := (3 : Int32)) dL_law_1112 rfl ?_
        refine z_iadd (pc := 1113) x dL_law_1113 ?_
        refine z_iald (pc := 1114) x (t := 0) rfl dL_law_1114 fun v1114 => ?_
        refine z_aload_n (pc := 1115) x 3 dL_law_1115 rfl rfl ?_
        refine z_call (pc := 1116) (z_canSX (pc := 1116) (As := [zP a1, zI (((v1101).toUInt32 % 65536).toInt32), zI v1108, zI v1114, zP a3]) (st := []) x (m_X0_heightByLevels hl a1 (((v1101).toUInt32 % 65536).toInt32) v1108 v1114 a3) q1824 q1825 q107 q1826 n_X0_heightByLevels ⟨by decide, by decide⟩ (Nat.le_of_ble_eq_true rfl) dL_law_1116) (zv_I fun v1116 => ?_) (fun q => zx_fail)
        refine z_istore (pc := 1119) (lv' := [(6, zI v1116), (0, zP a0), (1, zP a1), (2, zP a2), (3, zP a3), (4, zP a4), (5, zI a5)]) x dL_law_1119 (Nat.le_of_ble_eq_true rfl) rfl ?_
        refine z_aload_n (pc := 1121) x 3 dL_law_1121 rfl rfl ?_
        refine z_aload_n (pc := 1122) x 1 dL_law_1122 rfl rfl ?_
        refine z_iload (pc := 1123) x 6 dL_law_1123 rfl ?_
        refine z_iconst (pc := 1125) x (v := (1 : Int32)) dL_law_1125 rfl ?_
        refine z_iadd (pc := 1126) x dL_law_1126 ?_
        refine z_iald (pc := 1127) x (t := 0) rfl dL_law_1127 fun v1127 => ?_
        refine z_i2c (pc := 1128) x dL_law_1128 ?_
        refine z_aload_n (pc := 1129) x 1 dL_law_1129 rfl rfl ?_
        refine z_iload (pc := 1130) x 6 dL_law_1130 rfl ?_
        refine z_iconst (pc := 1132) x (v := (2 : Int32)) dL_law_1132 rfl ?_
        refine z_iadd (pc := 1133) x dL_law_1133 ?_
        refine z_iald (pc := 1134) x (t := 0) rfl dL_law_1134 fun v1134 => ?_
        refine z_aload_n (pc := 1135) x 1 dL_law_1135 rfl rfl ?_
        refine z_iload (pc := 1136) x 6 dL_law_1136 rfl ?_
        refine z_iconst (pc := 1138) x (v := (3 : Int32)) dL_law_1138 rfl ?_
        refine z_iadd (pc := 1139) x dL_law_1139 ?_
        refine z_iald (pc := 1140) x (t := 0) rfl dL_law_1140 fun v1140 => ?_
        refine z_call (pc := 1141) (z_canV (pc := 1141) (As := [zI (((v1127).toUInt32 % 65536).toInt32), zI v1134, zI v1140]) (st := []) x (ci := 34) rfl (fun b => m_X6_heightByLevels hl (some b) (((v1127).toUInt32 % 65536).toInt32) v1134 v1140) q3088 q3089 (x.2.2.2.2.1 _ q3090) q121 q3091 n_X6_heightByLevels ⟨by decide, by decide⟩ (Nat.le_of_ble_eq_true rfl) dL_law_1141) (zv_I fun v1141 => ?_) (fun q => zx_fail)
        refine z_istore (pc := 1144) (lv' := [(7, zI v1141), (6, zI v1116), (0, zP a0), (1, zP a1), (2, zP a2), (3, zP a3), (4, zP a4), (5, zI a5)]) x dL_law_1144 (Nat.le_of_ble_eq_true rfl) rfl ?_
        refine z_aload_n (pc := 1146) x 4 dL_law_1146 rfl rfl ?_
        refine z_call (pc := 1147) (z_canV (pc := 1147) (As := []) (st := []) x (ci := 34) rfl (fun b => m_X6_thrown hl (some b)) q2870 q2871 (x.2.2.2.2.1 _ q2872) q121 q2873 n_X6_thrown ⟨by decide, by decide⟩ (Nat.le_of_ble_eq_true rfl) dL_law_1147) (zv_I fun v1147 => ?_) (fun q => zx_fail)
        refine z_iload (pc := 1150) x 1 dL_law_1150 rfl ?_
        refine z_icmp_eq (pc := 1152) (tgt := 1157) x dL_law_1152 rfl (fun _ => ?_) (fun _ => ?_)
        · refine z_iload (pc := 1157) x 1 dL_law_1157 rfl ?_
          refine z_if_ne (pc := 1159) (tgt := 1174) x dL_law_1159 rfl (fun _ => ?_) (fun _ => ?_)
          · refine z_aload_n (pc := 1162) x 5 dL_law_1162 rfl rfl ?_
            refine z_iconst (pc := 1163) x (v := (0 : Int32)) dL_law_1163 rfl ?_
            refine z_lald (pc := 1164) x (t := 3) rfl dL_law_1164 fun v1164 => ?_
            refine z_iload (pc := 1165) x 0 dL_law_1165 rfl ?_
            refine z_i2l (pc := 1167) x dL_law_1167 ?_
            refine z_lcmp (pc := 1168) x dL_law_1168 ?_
            refine z_if_eq (pc := 1169) (tgt := 1174) x dL_law_1169 rfl (fun _ => ?_) (fun _ => ?_)
            · exact z_sub [2, 3, 4, 5, 6, 7] rfl (w_L_law_1174 x hl hret hnm htab h28 a0 a1 a2 a3 a4 a5)
            · refine z_iconst (pc := 1172) x (v := (0 : Int32)) dL_law_1172 rfl ?_
              exact z_zret (pc := 1173) x hret dL_law_1173
          · exact z_sub [2, 3, 4, 5, 6, 7] rfl (w_L_law_1174 x hl hret hnm htab h28 a0 a1 a2 a3 a4 a5)
        · refine z_iconst (pc := 1155) x (v := (0 : Int32)) dL_law_1155 rfl ?_
          exact z_zret (pc := 1156) x hret dL_law_1156
      refine z_ite (fun e44_15 => ?_) (fun e44_15 => ?_)
      · refine z_tabIn (pc := 44) (tgt := 1177) x (1133) dL_law_44 e44_15 (by decide) (by decide) rfl rfl ?_
        refine z_aload_n (pc := 1177) x 1 dL_law_1177 rfl rfl ?_
        refine z_aload_n (pc := 1178) x 0 dL_law_1178 rfl rfl ?_
        refine z_iload (pc := 1179) x 5 dL_law_1179 rfl ?_
        refine z_iconst (pc := 1181) x (v := (1 : Int32)) dL_law_1181 rfl ?_
        refine z_iadd (pc := 1182) x dL_law_1182 ?_
        refine z_iald (pc := 1183) x (t := 0) rfl dL_law_1183 fun v1183 => ?_
        refine z_i2c (pc := 1184) x dL_law_1184 ?_
        refine z_aload_n (pc := 1185) x 0 dL_law_1185 rfl rfl ?_
        refine z_iload (pc := 1186) x 5 dL_law_1186 rfl ?_
        refine z_iconst (pc := 1188) x (v := (2 : Int32)) dL_law_1188 rfl ?_
        refine z_iadd (pc := 1189) x dL_law_1189 ?_
        refine z_iald (pc := 1190) x (t := 0) rfl dL_law_1190 fun v1190 => ?_
        refine z_aload_n (pc := 1191) x 0 dL_law_1191 rfl rfl ?_
        refine z_iload (pc := 1192) x 5 dL_law_1192 rfl ?_
        refine z_iconst (pc := 1194) x (v := (3 : Int32)) dL_law_1194 rfl ?_
        refine z_iadd (pc := 1195) x dL_law_1195 ?_
        refine z_iald (pc := 1196) x (t := 0) rfl dL_law_1196 fun v1196 => ?_
        refine z_aload_n (pc := 1197) x 3 dL_law_1197 rfl rfl ?_
        refine z_call (pc := 1198) (z_canSX (pc := 1198) (As := [zP a1, zI (((v1183).toUInt32 % 65536).toInt32), zI v1190, zI v1196, zP a3]) (st := []) x (m_X0_ruleOf hl a1 (((v1183).toUInt32 % 65536).toInt32) v1190 v1196 a3) q1832 q1833 q107 q1834 n_X0_ruleOf ⟨by decide, by decide⟩ (Nat.le_of_ble_eq_true rfl) dL_law_1198) (zv_I fun v1198 => ?_) (fun q => zx_fail)
        refine z_istore (pc := 1201) (lv' := [(6, zI v1198), (0, zP a0), (1, zP a1), (2, zP a2), (3, zP a3), (4, zP a4), (5, zI a5)]) x dL_law_1201 (Nat.le_of_ble_eq_true rfl) rfl ?_
        refine z_aload_n (pc := 1203) x 3 dL_law_1203 rfl rfl ?_
        refine z_aload_n (pc := 1204) x 1 dL_law_1204 rfl rfl ?_
        refine z_iload (pc := 1205) x 6 dL_law_1205 rfl ?_
        refine z_iconst (pc := 1207) x (v := (1 : Int32)) dL_law_1207 rfl ?_
        refine z_iadd (pc := 1208) x dL_law_1208 ?_
        refine z_iald (pc := 1209) x (t := 0) rfl dL_law_1209 fun v1209 => ?_
        refine z_i2c (pc := 1210) x dL_law_1210 ?_
        refine z_aload_n (pc := 1211) x 1 dL_law_1211 rfl rfl ?_
        refine z_iload (pc := 1212) x 6 dL_law_1212 rfl ?_
        refine z_iconst (pc := 1214) x (v := (2 : Int32)) dL_law_1214 rfl ?_
        refine z_iadd (pc := 1215) x dL_law_1215 ?_
        refine z_iald (pc := 1216) x (t := 0) rfl dL_law_1216 fun v1216 => ?_
        refine z_aload_n (pc := 1217) x 1 dL_law_1217 rfl rfl ?_
        refine z_iload (pc := 1218) x 6 dL_law_1218 rfl ?_
        refine z_iconst (pc := 1220) x (v := (3 : Int32)) dL_law_1220 rfl ?_
        refine z_iadd (pc := 1221) x dL_law_1221 ?_
        refine z_iald (pc := 1222) x (t := 0) rfl dL_law_1222 fun v1222 => ?_
        refine z_call (pc := 1223) (z_canV (pc := 1223) (As := [zI (((v1209).toUInt32 % 65536).toInt32), zI v1216, zI v1222]) (st := []) x (ci := 34) rfl (fun b => m_X6_ruleOf hl (some b) (((v1209).toUInt32 % 65536).toInt32) v1216 v1222) q3093 q3094 (x.2.2.2.2.1 _ q3095) q121 q3096 n_X6_ruleOf ⟨by decide, by decide⟩ (Nat.le_of_ble_eq_true rfl) dL_law_1223) (zv_I fun v1223 => ?_) (fun q => zx_fail)
        refine z_istore (pc := 1226) (lv' := [(7, zI v1223), (6, zI v1198), (0, zP a0), (1, zP a1), (2, zP a2), (3, zP a3), (4, zP a4), (5, zI a5)]) x dL_law_1226 (Nat.le_of_ble_eq_true rfl) rfl ?_
        refine z_aload_n (pc := 1228) x 4 dL_law_1228 rfl rfl ?_
        refine z_call (pc := 1229) (z_canV (pc := 1229) (As := []) (st := []) x (ci := 34) rfl (fun b => m_X6_thrown hl (some b)) q2870 q2871 (x.2.2.2.2.1 _ q2872) q121 q2873 n_X6_thrown ⟨by decide, by decide⟩ (Nat.le_of_ble_eq_true rfl) dL_law_1229) (zv_I fun v1229 => ?_) (fun q => zx_fail)
        refine z_iload (pc := 1232) x 1 dL_law_1232 rfl ?_
        refine z_icmp_eq (pc := 1234) (tgt := 1239) x dL_law_1234 rfl (fun _ => ?_) (fun _ => ?_)
        · refine z_iload (pc := 1239) x 1 dL_law_1239 rfl ?_
          refine z_if_ne (pc := 1241) (tgt := 1256) x dL_law_1241 rfl (fun _ => ?_) (fun _ => ?_)
          · refine z_aload_n (pc := 1244) x 5 dL_law_1244 rfl rfl ?_
            refine z_iconst (pc := 1245) x (v := (0 : Int32)) dL_law_1245 rfl ?_
            refine z_lald (pc := 1246) x (t := 3) rfl dL_law_1246 fun v1246 => ?_
            refine z_iload (pc := 1247) x 0 dL_law_1247 rfl ?_
            refine z_i2l (pc := 1249) x dL_law_1249 ?_
            refine z_lcmp (pc := 1250) x dL_law_1250 ?_
            refine z_if_eq (pc := 1251) (tgt := 1256) x dL_law_1251 rfl (fun _ => ?_) (fun _ => ?_)
            · exact z_sub [2, 3, 4, 5, 6, 7] rfl (w_L_law_1256 x hl hret hnm htab h28 a0 a1 a2 a3 a4 a5)
            · refine z_iconst (pc := 1254) x (v := (0 : Int32)) dL_law_1254 rfl ?_
              exact z_zret (pc := 1255) x hret dL_law_1255
          · exact z_sub [2, 3, 4, 5, 6, 7] rfl (w_L_law_1256 x hl hret hnm htab h28 a0 a1 a2 a3 a4 a5)
        · refine z_iconst (pc := 1237) x (v := (0 : Int32)) dL_law_1237 rfl ?_
          exact z_zret (pc := 1238) x hret dL_law_1238
      refine z_ite (fun e44_16 => ?_) (fun e44_16 => ?_)
      · refine z_tabIn (pc := 44) (tgt := 1259) x (1215) dL_law_44 e44_16 (by decide) (by decide) rfl rfl ?_
        refine z_aload_n (pc := 1259) x 1 dL_law_1259 rfl rfl ?_
        refine z_aload_n (pc := 1260) x 0 dL_law_1260 rfl rfl ?_
        refine z_iload (pc := 1261) x 5 dL_law_1261 rfl ?_
        refine z_iconst (pc := 1263) x (v := (1 : Int32)) dL_law_1263 rfl ?_
        refine z_iadd (pc := 1264) x dL_law_1264 ?_
        refine z_iald (pc := 1265) x (t := 0) rfl dL_law_1265 fun v1265 => ?_
        refine z_i2c (pc := 1266) x dL_law_1266 ?_
        refine z_aload_n (pc := 1267) x 0 dL_law_1267 rfl rfl ?_
        refine z_iload (pc := 1268) x 5 dL_law_1268 rfl ?_
        refine z_iconst (pc := 1270) x (v := (2 : Int32)) dL_law_1270 rfl ?_
        refine z_iadd (pc := 1271) x dL_law_1271 ?_
        refine z_iald (pc := 1272) x (t := 0) rfl dL_law_1272 fun v1272 => ?_
        refine z_aload_n (pc := 1273) x 0 dL_law_1273 rfl rfl ?_
        refine z_iload (pc := 1274) x 5 dL_law_1274 rfl ?_
        refine z_iconst (pc := 1276) x (v := (3 : Int32)) dL_law_1276 rfl ?_
        refine z_iadd (pc := 1277) x dL_law_1277 ?_
        refine z_iald (pc := 1278) x (t := 0) rfl dL_law_1278 fun v1278 => ?_
        refine z_aload_n (pc := 1279) x 3 dL_law_1279 rfl rfl ?_
        refine z_call (pc := 1280) (z_canSX (pc := 1280) (As := [zP a1, zI (((v1265).toUInt32 % 65536).toInt32), zI v1272, zI v1278, zP a3]) (st := []) x (m_X0_proofSize hl a1 (((v1265).toUInt32 % 65536).toInt32) v1272 v1278 a3) q1897 q1898 q107 q1899 n_X0_proofSize ⟨by decide, by decide⟩ (Nat.le_of_ble_eq_true rfl) dL_law_1280) (zv_I fun v1280 => ?_) (fun q => zx_fail)
        refine z_istore (pc := 1283) (lv' := [(6, zI v1280), (0, zP a0), (1, zP a1), (2, zP a2), (3, zP a3), (4, zP a4), (5, zI a5)]) x dL_law_1283 (Nat.le_of_ble_eq_true rfl) rfl ?_
        refine z_aload_n (pc := 1285) x 3 dL_law_1285 rfl rfl ?_
        refine z_aload_n (pc := 1286) x 1 dL_law_1286 rfl rfl ?_
        refine z_iload (pc := 1287) x 6 dL_law_1287 rfl ?_
        refine z_iconst (pc := 1289) x (v := (1 : Int32)) dL_law_1289 rfl ?_
        refine z_iadd (pc := 1290) x dL_law_1290 ?_
        refine z_iald (pc := 1291) x (t := 0) rfl dL_law_1291 fun v1291 => ?_
        refine z_i2c (pc := 1292) x dL_law_1292 ?_
        refine z_aload_n (pc := 1293) x 1 dL_law_1293 rfl rfl ?_
        refine z_iload (pc := 1294) x 6 dL_law_1294 rfl ?_
        refine z_iconst (pc := 1296) x (v := (2 : Int32)) dL_law_1296 rfl ?_
        refine z_iadd (pc := 1297) x dL_law_1297 ?_
        refine z_iald (pc := 1298) x (t := 0) rfl dL_law_1298 fun v1298 => ?_
        refine z_aload_n (pc := 1299) x 1 dL_law_1299 rfl rfl ?_
        refine z_iload (pc := 1300) x 6 dL_law_1300 rfl ?_
        refine z_iconst (pc := 1302) x (v := (3 : Int32)) dL_law_1302 rfl ?_
        refine z_iadd (pc := 1303) x dL_law_1303 ?_
        refine z_iald (pc := 1304) x (t := 0) rfl dL_law_1304 fun v1304 => ?_
        refine z_call (pc := 1305) (z_canV (pc := 1305) (As := [zI (((v1291).toUInt32 % 65536).toInt32), zI v1298, zI v1304]) (st := []) x (ci := 34) rfl (fun b => m_X6_proofSize hl (some b) (((v1291).toUInt32 % 65536).toInt32) v1298 v1304) q3097 q3098 (x.2.2.2.2.1 _ q3099) q121 q3100 n_X6_proofSize ⟨by decide, by decide⟩ (Nat.le_of_ble_eq_true rfl) dL_law_1305) (zv_L fun v1305 => ?_) (fun q => zx_fail)
        refine z_lstore (pc := 1308) (lv' := [(7, zL v1305), (6, zI v1280), (0, zP a0), (1, zP a1), (2, zP a2), (3, zP a3), (4, zP a4), (5, zI a5)]) x dL_law_1308 (Nat.le_of_ble_eq_true rfl) rfl ?_
        refine z_aload_n (pc := 1310) x 4 dL_law_1310 rfl rfl ?_
        refine z_call (pc := 1311) (z_canV (pc := 1311) (As := []) (st := []) x (ci := 34) rfl (fun b => m_X6_thrown hl (some b)) q2870 q2871 (x.2.2.2.2.1 _ q2872) q121 q2873 n_X6_thrown ⟨by decide, by decide⟩ (Nat.le_of_ble_eq_true rfl) dL_law_1311) (zv_I fun v1311 => ?_) (fun q => zx_fail)
        refine z_iload (pc := 1314) x 1 dL_law_1314 rfl ?_
        refine z_icmp_eq (pc := 1316) (tgt := 1321) x dL_law_1316 rfl (fun _ => ?_) (fun _ => ?_)
        · refine z_iload (pc := 1321) x 1 dL_law_1321 rfl ?_
          refine z_if_ne (pc := 1323) (tgt := 1337) x dL_law_1323 rfl (fun _ => ?_) (fun _ => ?_)
          · refine z_aload_n (pc := 1326) x 5 dL_law_1326 rfl rfl ?_
            refine z_iconst (pc := 1327) x (v := (0 : Int32)) dL_law_1327 rfl ?_
            refine z_lald (pc := 1328) x (t := 3) rfl dL_law_1328 fun v1328 => ?_
            refine z_lload (pc := 1329) x 0 dL_law_1329 rfl ?_
            refine z_lcmp (pc := 1331) x dL_law_1331 ?_
            refine z_if_eq (pc := 1332) (tgt := 1337) x dL_law_1332 rfl (fun _ => ?_) (fun _ => ?_)
            · exact z_sub [2, 3, 4, 5, 6, 7] rfl (w_L_law_1337 x hl hret hnm htab h28 a0 a1 a2 a3 a4 a5)
            · refine z_iconst (pc := 1335) x (v := (0 : Int32)) dL_law_1335 rfl ?_
              exact z_zret (pc := 1336) x hret dL_law_1336
          · exact z_sub [2, 3, 4, 5, 6, 7] rfl (w_L_law_1337 x hl hret hnm htab h28 a0 a1 a2 a3 a4 a5)
        · refine z_iconst (pc := 1319) x (v := (0 : Int32)) dL_law_1319 rfl ?_
          exact z_zret (pc := 1320) x hret dL_law_1320
      refine z_ite (fun e44_17 => ?_) (fun e44_17 => ?_)
      · refine z_tabIn (pc := 44) (tgt := 1340) x (1296) dL_law_44 e44_17 (by decide) (by decide) rfl rfl ?_
        refine z_aload_n (pc := 1340) x 1 dL_law_1340 rfl rfl ?_
        refine z_aload_n (pc := 1341) x 0 dL_law_1341 rfl rfl ?_
        refine z_iload (pc := 1342) x 5 dL_law_1342 rfl ?_
        refine z_iconst (pc := 1344) x (v := (1 : Int32)) dL_law_1344 rfl ?_
        refine z_iadd (pc := 1345) x dL_law_1345 ?_
        refine z_iald (pc := 1346) x (t := 0) rfl dL_law_1346 fun v1346 => ?_
        refine z_i2c (pc := 1347) x dL_law_1347 ?_
        refine z_aload_n (pc := 1348) x 0 dL_law_1348 rfl rfl ?_
        refine z_iload (pc := 1349) x 5 dL_law_1349 rfl ?_
        refine z_iconst (pc := 1351) x (v := (2 : Int32)) dL_law_1351 rfl ?_
        refine z_iadd (pc := 1352) x dL_law_1352 ?_
        refine z_iald (pc := 1353) x (t := 0) rfl dL_law_1353 fun v1353 => ?_
        refine z_aload_n (pc := 1354) x 0 dL_law_1354 rfl rfl ?_
        refine z_iload (pc := 1355) x 5 dL_law_1355 rfl ?_
        refine z_iconst (pc := 1357) x (v := (3 : Int32)) dL_law_1357 rfl ?_
        refine z_iadd (pc := 1358) x dL_law_1358 ?_
        refine z_iald (pc := 1359) x (t := 0) rfl dL_law_1359 fun v1359 => ?_
        refine z_aload_n (pc := 1360) x 3 dL_law_1360 rfl rfl ?_
        refine z_call (pc := 1361) (z_canSX (pc := 1361) (As := [zP a1, zI (((v1346).toUInt32 % 65536).toInt32), zI v1353, zI v1359, zP a3]) (st := []) x (m_X0_answers hl a1 (((v1346).toUInt32 % 65536).toInt32) v1353 v1359 a3) q1917 q1918 q107 q1919 n_X0_answers ⟨by decide, by decide⟩ (Nat.le_of_ble_eq_true rfl) dL_law_1361) (zv_I fun v1361 => ?_) (fun q => zx_fail)
        refine z_istore (pc := 1364) (lv' := [(6, zI v1361), (0, zP a0), (1, zP a1), (2, zP a2), (3, zP a3), (4, zP a4), (5, zI a5)]) x dL_law_1364 (Nat.le_of_ble_eq_true rfl) rfl ?_
        refine z_aload_n (pc := 1366) x 3 dL_law_1366 rfl rfl ?_
        refine z_aload_n (pc := 1367) x 1 dL_law_1367 rfl rfl ?_
        refine z_iload (pc := 1368) x 6 dL_law_1368 rfl ?_
        refine z_iconst (pc := 1370) x (v := (1 : Int32)) dL_law_1370 rfl ?_
        refine z_iadd (pc := 1371) x dL_law_1371 ?_
        refine z_iald (pc := 1372) x (t := 0) rfl dL_law_1372 fun v1372 => ?_
        refine z_i2c (pc := 1373) x dL_law_1373 ?_
        refine z_aload_n (pc := 1374) x 1 dL_law_1374 rfl rfl ?_
        refine z_iload (pc := 1375) x 6 dL_law_1375 rfl ?_
        refine z_iconst (pc := 1377) x (v := (2 : Int32)) dL_law_1377 rfl ?_
        refine z_iadd (pc := 1378) x dL_law_1378 ?_
        refine z_iald (pc := 1379) x (t := 0) rfl dL_law_1379 fun v1379 => ?_
        refine z_aload_n (pc := 1380) x 1 dL_law_1380 rfl rfl ?_
        refine z_iload (pc := 1381) x 6 dL_law_1381 rfl ?_
        refine z_iconst (pc := 1383) x (v := (3 : Int32)) dL_law_1383 rfl ?_
        refine z_iadd (pc := 1384) x dL_law_1384 ?_
        refine z_iald (pc := 1385) x (t := 0) rfl dL_law_1385 fun v1385 => ?_
        refine z_call (pc := 1386) (z_canV (pc := 1386) (As := [zI (((v1372).toUInt32 % 65536).toInt32), zI v1379, zI v1385]) (st := []) x (ci := 34) rfl (fun b => m_X6_answers hl (some b) (((v1372).toUInt32 % 65536).toInt32) v1379 v1385) q3111 q3112 (x.2.2.2.2.1 _ q3113) q121 q3114 n_X6_answers ⟨by decide, by decide⟩ (Nat.le_of_ble_eq_true rfl) dL_law_1386) (zv_I fun v1386 => ?_) (fun q => zx_fail)
        refine z_istore (pc := 1389) (lv' := [(7, zI v1386), (6, zI v1361), (0, zP a0), (1, zP a1), (2, zP a2), (3, zP a3), (4, zP a4), (5, zI a5)]) x dL_law_1389 (Nat.le_of_ble_eq_true rfl) rfl ?_
        refine z_aload_n (pc := 1391) x 4 dL_law_1391 rfl rfl ?_
        refine z_call (pc := 1392) (z_canV (pc := 1392) (As := []) (st := []) x (ci := 34) rfl (fun b => m_X6_thrown hl (some b)) q2870 q2871 (x.2.2.2.2.1 _ q2872) q121 q2873 n_X6_thrown ⟨by decide, by decide⟩ (Nat.le_of_ble_eq_true rfl) dL_law_1392) (zv_I fun v1392 => ?_) (fun q => zx_fail)
        refine z_iload (pc := 1395) x 1 dL_law_1395 rfl ?_
        refine z_icmp_eq (pc := 1397) (tgt := 1402) x dL_law_1397 rfl (fun _ => ?_) (fun _ => ?_)
        · refine z_iload (pc := 1402) x 1 dL_law_1402 rfl ?_
          refine z_if_ne (pc := 1404) (tgt := 1419) x dL_law_1404 rfl (fun _ => ?_) (fun _ => ?_)
          · refine z_aload_n (pc := 1407) x 5 dL_law_1407 rfl rfl ?_
            refine z_iconst (pc := 1408) x (v := (0 : Int32)) dL_law_1408 rfl ?_
            refine z_lald (pc := 1409) x (t := 3) rfl dL_law_1409 fun v1409 => ?_
            refine z_iload (pc := 1410) x 0 dL_law_1410 rfl ?_
            refine z_i2l (pc := 1412) x dL_law_1412 ?_
            refine z_lcmp (pc := 1413) x dL_law_1413 ?_
            refine z_if_eq (pc := 1414) (tgt := 1419) x dL_law_1414 rfl (fun _ => ?_) (fun _ => ?_)
            · exact z_sub [2, 3, 4, 5, 6, 7] rfl (w_L_law_1419 x hl hret hnm htab h28 a0 a1 a2 a3 a4 a5)
            · refine z_iconst (pc := 1417) x (v := (0 : Int32)) dL_law_1417 rfl ?_
              exact z_zret (pc := 1418) x hret dL_law_1418
          · exact z_sub [2, 3, 4, 5, 6, 7] rfl (w_L_law_1419 x hl hret hnm htab h28 a0 a1 a2 a3 a4 a5)
        · refine z_iconst (pc := 1400) x (v := (0 : Int32)) dL_law_1400 rfl ?_
          exact z_zret (pc := 1401) x hret dL_law_1401
      refine z_ite (fun e44_18 => ?_) (fun e44_18 => ?_)
      · refine z_tabIn (pc := 44) (tgt := 1422) x (1378) dL_law_44 e44_18 (by decide) (by decide) rfl rfl ?_
        refine z_aload_n (pc := 1422) x 1 dL_law_1422 rfl rfl ?_
        refine z_aload_n (pc := 1423) x 0 dL_law_1423 rfl rfl ?_
        refine z_iload (pc := 1424) x 5 dL_law_1424 rfl ?_
        refine z_iconst (pc := 1426) x (v := (1 : Int32)) dL_law_1426 rfl ?_
        refine z_iadd (pc := 1427) x dL_law_1427 ?_
        refine z_iald (pc := 1428) x (t := 0) rfl dL_law_1428 fun v1428 => ?_
        refine z_i2c (pc := 1429) x dL_law_1429 ?_
        refine z_aload_n (pc := 1430) x 0 dL_law_1430 rfl rfl ?_
        refine z_iload (pc := 1431) x 5 dL_law_1431 rfl ?_
        refine z_iconst (pc := 1433) x (v := (2 : Int32)) dL_law_1433 rfl ?_
        refine z_iadd (pc := 1434) x dL_law_1434 ?_
        refine z_iald (pc := 1435) x (t := 0) rfl dL_law_1435 fun v1435 => ?_
        refine z_aload_n (pc := 1436) x 0 dL_law_1436 rfl rfl ?_
        refine z_iload (pc := 1437) x 5 dL_law_1437 rfl ?_
        refine z_iconst (pc := 1439) x (v := (3 : Int32)) dL_law_1439 rfl ?_
        refine z_iadd (pc := 1440) x dL_law_1440 ?_
        refine z_iald (pc := 1441) x (t := 0) rfl dL_law_1441 fun v1441 => ?_
        refine z_aload_n (pc := 1442) x 3 dL_law_1442 rfl rfl ?_
        refine z_call (pc := 1443) (z_canSX (pc := 1443) (As := [zP a1, zI (((v1428).toUInt32 % 65536).toInt32), zI v1435, zI v1441, zP a3]) (st := []) x (m_X0_answersByGoals hl a1 (((v1428).toUInt32 % 65536).toInt32) v1435 v1441 a3) q1934 q1935 q107 q1936 n_X0_answersByGoals ⟨by decide, by decide⟩ (Nat.le_of_ble_eq_true rfl) dL_law_1443) (zv_I fun v1443 => ?_) (fun q => zx_fail)
        refine z_istore (pc := 1446) (lv' := [(6, zI v1443), (0, zP a0), (1, zP a1), (2, zP a2), (3, zP a3), (4, zP a4), (5, zI a5)]) x dL_law_1446 (Nat.le_of_ble_eq_true rfl) rfl ?_
        refine z_aload_n (pc := 1448) x 3 dL_law_1448 rfl rfl ?_
        refine z_aload_n (pc := 1449) x 1 dL_law_1449 rfl rfl ?_
        refine z_iload (pc := 1450) x 6 dL_law_1450 rfl ?_
        refine z_iconst (pc := 1452) x (v := (1 : Int32)) dL_law_1452 rfl ?_
        refine z_iadd (pc := 1453) x dL_law_1453 ?_
        refine z_iald (pc := 1454) x (t := 0) rfl dL_law_1454 fun v1454 => ?_
        refine z_i2c (pc := 1455) x dL_law_1455 ?_
        refine z_aload_n (pc := 1456) x 1 dL_law_1456 rfl rfl ?_
        refine z_iload (pc := 1457) x 6 dL_law_1457 rfl ?_
        refine z_iconst (pc := 1459) x (v := (2 : Int32)) dL_law_1459 rfl ?_
        refine z_iadd (pc := 1460) x dL_law_1460 ?_
        refine z_iald (pc := 1461) x (t := 0) rfl dL_law_1461 fun v1461 => ?_
        refine z_aload_n (pc := 1462) x 1 dL_law_1462 rfl rfl ?_
        refine z_iload (pc := 1463) x 6 dL_law_1463 rfl ?_
        refine z_iconst (pc := 1465) x (v := (3 : Int32)) dL_law_1465 rfl ?_
        refine z_iadd (pc := 1466) x dL_law_1466 ?_
        refine z_iald (pc := 1467) x (t := 0) rfl dL_law_1467 fun v1467 => ?_
        refine z_call (pc := 1468) (z_canV (pc := 1468) (As := [zI (((v1454).toUInt32 % 65536).toInt32), zI v1461, zI v1467]) (st := []) x (ci := 34) rfl (fun b => m_X6_answersByGoals hl (some b) (((v1454).toUInt32 % 65536).toInt32) v1461 v1467) q3125 q3126 (x.2.2.2.2.1 _ q3127) q121 q3128 n_X6_answersByGoals ⟨by decide, by decide⟩ (Nat.le_of_ble_eq_true rfl) dL_law_1468) (zv_I fun v1468 => ?_) (fun q => zx_fail)
        refine z_istore (pc := 1471) (lv' := [(7, zI v1468), (6, zI v1443), (0, zP a0), (1, zP a1), (2, zP a2), (3, zP a3), (4, zP a4), (5, zI a5)]) x dL_law_1471 (Nat.le_of_ble_eq_true rfl) rfl ?_
        refine z_aload_n (pc := 1473) x 4 dL_law_1473 rfl rfl ?_
        refine z_call (pc := 1474) (z_canV (pc := 1474) (As := []) (st := []) x (ci := 34) rfl (fun b => m_X6_thrown hl (some b)) q2870 q2871 (x.2.2.2.2.1 _ q2872) q121 q2873 n_X6_thrown ⟨by decide, by decide⟩ (Nat.le_of_ble_eq_true rfl) dL_law_1474) (zv_I fun v1474 => ?_) (fun q => zx_fail)
        refine z_iload (pc := 1477) x 1 dL_law_1477 rfl ?_
        refine z_icmp_eq (pc := 1479) (tgt := 1484) x dL_law_1479 rfl (fun _ => ?_) (fun _ => ?_)
        · refine z_iload (pc := 1484) x 1 dL_law_1484 rfl ?_
          refine z_if_ne (pc := 1486) (tgt := 1501) x dL_law_1486 rfl (fun _ => ?_) (fun _ => ?_)
          · refine z_aload_n (pc := 1489) x 5 dL_law_1489 rfl rfl ?_
            refine z_iconst (pc := 1490) x (v := (0 : Int32)) dL_law_1490 rfl ?_
            refine z_lald (pc := 1491) x (t := 3) rfl dL_law_1491 fun v1491 => ?_
            refine z_iload (pc := 1492) x 0 dL_law_1492 rfl ?_
            refine z_i2l (pc := 1494) x dL_law_1494 ?_
            refine z_lcmp (pc := 1495) x dL_law_1495 ?_
            refine z_if_eq (pc := 1496) (tgt := 1501) x dL_law_1496 rfl (fun _ => ?_) (fun _ => ?_)
            · exact z_sub [2, 3, 4, 5, 6, 7] rfl (w_L_law_1501 x hl hret hnm htab h28 a0 a1 a2 a3 a4 a5)
            · refine z_iconst (pc := 1499) x (v := (0 : Int32)) dL_law_1499 rfl ?_
              exact z_zret (pc := 1500) x hret dL_law_1500
          · exact z_sub [2, 3, 4, 5, 6, 7] rfl (w_L_law_1501 x hl hret hnm htab h28 a0 a1 a2 a3 a4 a5)
        · refine z_iconst (pc := 1482) x (v := (0 : Int32)) dL_law_1482 rfl ?_
          exact z_zret (pc := 1483) x hret dL_law_1483
      refine z_ite (fun e44_19 => ?_) (fun e44_19 => ?_)
      · refine z_tabIn (pc := 44) (tgt := 1504) x (1460) dL_law_44 e44_19 (by decide) (by decide) rfl rfl ?_
        refine z_aload_n (pc := 1504) x 1 dL_law_1504 rfl rfl ?_
        refine z_aload_n (pc := 1505) x 0 dL_law_1505 rfl rfl ?_
        refine z_iload (pc := 1506) x 5 dL_law_1506 rfl ?_
        refine z_iconst (pc := 1508) x (v := (1 : Int32)) dL_law_1508 rfl ?_
        refine z_iadd (pc := 1509) x dL_law_1509 ?_
        refine z_iald (pc := 1510) x (t := 0) rfl dL_law_1510 fun v1510 => ?_
        refine z_i2c (pc := 1511) x dL_law_1511 ?_
        refine z_aload_n (pc := 1512) x 0 dL_law_1512 rfl rfl ?_
        refine z_iload (pc := 1513) x 5 dL_law_1513 rfl ?_
        refine z_iconst (pc := 1515) x (v := (2 : Int32)) dL_law_1515 rfl ?_
        refine z_iadd (pc := 1516) x dL_law_1516 ?_
        refine z_iald (pc := 1517) x (t := 0) rfl dL_law_1517 fun v1517 => ?_
        refine z_aload_n (pc := 1518) x 0 dL_law_1518 rfl rfl ?_
        refine z_iload (pc := 1519) x 5 dL_law_1519 rfl ?_
        refine z_iconst (pc := 1521) x (v := (3 : Int32)) dL_law_1521 rfl ?_
        refine z_iadd (pc := 1522) x dL_law_1522 ?_
        refine z_iald (pc := 1523) x (t := 0) rfl dL_law_1523 fun v1523 => ?_
        refine z_aload_n (pc := 1524) x 0 dL_law_1524 rfl rfl ?_
        refine z_iload (pc := 1525) x 5 dL_law_1525 rfl ?_
        refine z_iconst (pc := 1527) x (v := (4 : Int32)) dL_law_1527 rfl ?_
        refine z_iadd (pc := 1528) x dL_law_1528 ?_
        refine z_iald (pc := 1529) x (t := 0) rfl dL_law_1529 fun v1529 => ?_
        refine z_aload_n (pc := 1530) x 3 dL_law_1530 rfl rfl ?_
        refine z_call (pc := 1531) (z_canSX (pc := 1531) (As := [zP a1, zI (((v1510).toUInt32 % 65536).toInt32), zI v1517, zI v1523, zI v1529, zP a3]) (st := []) x (m_X0_answerAt hl a1 (((v1510).toUInt32 % 65536).toInt32) v1517 v1523 v1529 a3) q1944 q1945 q107 q1946 n_X0_answerAt ⟨by decide, by decide⟩ (Nat.le_of_ble_eq_true rfl) dL_law_1531) (zv_I fun v1531 => ?_) (fun q => zx_fail)
        refine z_istore (pc := 1534) (lv' := [(6, zI v1531), (0, zP a0), (1, zP a1), (2, zP a2), (3, zP a3), (4, zP a4), (5, zI a5)]) x dL_law_1534 (Nat.le_of_ble_eq_true rfl) rfl ?_
        refine z_aload_n (pc := 1536) x 3 dL_law_1536 rfl rfl ?_
        refine z_aload_n (pc := 1537) x 1 dL_law_1537 rfl rfl ?_
        refine z_iload (pc := 1538) x 6 dL_law_1538 rfl ?_
        refine z_iconst (pc := 1540) x (v := (1 : Int32)) dL_law_1540 rfl ?_
        refine z_iadd (pc := 1541) x dL_law_1541 ?_
        refine z_iald (pc := 1542) x (t := 0) rfl dL_law_1542 fun v1542 => ?_
        refine z_i2c (pc := 1543) x dL_law_1543 ?_
        refine z_aload_n (pc := 1544) x 1 dL_law_1544 rfl rfl ?_
        refine z_iload (pc := 1545) x 6 dL_law_1545 rfl ?_
        refine z_iconst (pc := 1547) x (v := (2 : Int32)) dL_law_1547 rfl ?_
        refine z_iadd (pc := 1548) x dL_law_1548 ?_
        refine z_iald (pc := 1549) x (t := 0) rfl dL_law_1549 fun v1549 => ?_
        refine z_aload_n (pc := 1550) x 1 dL_law_1550 rfl rfl ?_
        refine z_iload (pc := 1551) x 6 dL_law_1551 rfl ?_
        refine z_iconst (pc := 1553) x (v := (3 : Int32)) dL_law_1553 rfl ?_
        refine z_iadd (pc := 1554) x dL_law_1554 ?_
        refine z_iald (pc := 1555) x (t := 0) rfl dL_law_1555 fun v1555 => ?_
        refine z_aload_n (pc := 1556) x 1 dL_law_1556 rfl rfl ?_
        refine z_iload (pc := 1557) x 6 dL_law_1557 rfl ?_
        refine z_iconst (pc := 1559) x (v := (4 : Int32)) dL_law_1559 rfl ?_
        refine z_iadd (pc := 1560) x dL_law_1560 ?_
        refine z_iald (pc := 1561) x (t := 0) rfl dL_law_1561 fun v1561 => ?_
        refine z_call (pc := 1562) (z_canV (pc := 1562) (As := [zI (((v1542).toUInt32 % 65536).toInt32), zI v1549, zI v1555, zI v1561]) (st := []) x (ci := 34) rfl (fun b => m_X6_answerAt hl (some b) (((v1542).toUInt32 % 65536).toInt32) v1549 v1555 v1561) q3130 q3131 (x.2.2.2.2.1 _ q3132) q121 q3133 n_X6_answerAt ⟨by decide, by decide⟩ (Nat.le_of_ble_eq_true rfl) dL_law_1562) (zv_I fun v1562 => ?_) (fun q => zx_fail)
        refine z_istore (pc := 1565) (lv' := [(7, zI v1562), (6, zI v1531), (0, zP a0), (1, zP a1), (2, zP a2), (3, zP a3), (4, zP a4), (5, zI a5)]) x dL_law_1565 (Nat.le_of_ble_eq_true rfl) rfl ?_
        refine z_aload_n (pc := 1567) x 4 dL_law_1567 rfl rfl ?_
        refine z_call (pc := 1568) (z_canV (pc := 1568) (As := []) (st := []) x (ci := 34) rfl (fun b => m_X6_thrown hl (some b)) q2870 q2871 (x.2.2.2.2.1 _ q2872) q121 q2873 n_X6_thrown ⟨by decide, by decide⟩ (Nat.le_of_ble_eq_true rfl) dL_law_1568) (zv_I fun v1568 => ?_) (fun q => zx_fail)
        refine z_iload (pc := 1571) x 1 dL_law_1571 rfl ?_
        refine z_icmp_eq (pc := 1573) (tgt := 1578) x dL_law_1573 rfl (fun _ => ?_) (fun _ => ?_)
        · refine z_iload (pc := 1578) x 1 dL_law_1578 rfl ?_
          refine z_if_ne (pc := 1580) (tgt := 1595) x dL_law_1580 rfl (fun _ => ?_) (fun _ => ?_)
          · refine z_aload_n (pc := 1583) x 5 dL_law_1583 rfl rfl ?_
            refine z_iconst (pc := 1584) x (v := (0 : Int32)) dL_law_1584 rfl ?_
            refine z_lald (pc := 1585) x (t := 3) rfl dL_law_1585 fun v1585 => ?_
            refine z_iload (pc := 1586) x 0 dL_law_1586 rfl ?_
            refine z_i2l (pc := 1588) x dL_law_1588 ?_
            refine z_lcmp (pc := 1589) x dL_law_1589 ?_
            refine z_if_eq (pc := 1590) (tgt := 1595) x dL_law_1590 rfl (fun _ => ?_) (fun _ => ?_)
            · exact z_sub [2, 3, 4, 5, 6, 7] rfl (w_L_law_1595 x hl hret hnm htab h28 a0 a1 a2 a3 a4 a5)
            · refine z_iconst (pc := 1593) x (v := (0 : Int32)) dL_law_1593 rfl ?_
              exact z_zret (pc := 1594) x hret dL_law_1594
          · exact z_sub [2, 3, 4, 5, 6, 7] rfl (w_L_law_1595 x hl hret hnm htab h28 a0 a1 a2 a3 a4 a5)
        · refine z_iconst (pc := 1576) x (v := (0 : Int32)) dL_law_1576 rfl ?_
          exact z_zret (pc := 1577) x hret dL_law_1577
      refine z_ite (fun e44_20 => ?_) (fun e44_20 => ?_)
      · refine z_tabIn (pc := 44) (tgt := 1598) x (1554) dL_law_44 e44_20 (by decide) (by decide) rfl rfl ?_
        refine z_aload_n (pc := 1598) x 1 dL_law_1598 rfl rfl ?_
        refine z_call (pc := 1599) (z_canV (pc := 1599) (As := []) (st := []) x (ci := 16) rfl (fun b => m_X1_ruleCount hl (some b)) q875 q876 (x.2.2.2.2.1 _ q877) q108 q878 n_X1_ruleCount ⟨by decide, by decide⟩ (Nat.le_of_ble_eq_true rfl) dL_law_1599) (zv_I fun v1599 => ?_) (fun q => zx_fail)
        refine z_aload_n (pc := 1602) x 2 dL_law_1602 rfl rfl ?_
        refine z_call (pc := 1603) (z_canV (pc := 1603) (As := []) (st := [zI v1599]) x (ci := 34) rfl (fun b => m_X6_ruleCount hl (some b)) q3134 q3135 (x.2.2.2.2.1 _ q3136) q121 q3137 n_X6_ruleCount ⟨by decide, by decide⟩ (Nat.le_of_ble_eq_true rfl) dL_law_1603) (zv_I fun v1603 => ?_) (fun q => zx_fail)
        refine z_icmp_eq (pc := 1606) (tgt := 2702) x dL_law_1606 rfl (fun _ => ?_) (fun _ => ?_)
        · exact z_sub [0, 1, 2, 3, 4, 5] rfl (w_L_law_2702 x hl hret hnm htab h28 a0 a1 a2 a3 a4 a5)
        · refine z_iconst (pc := 1609) x (v := (0 : Int32)) dL_law_1609 rfl ?_
          exact z_zret (pc := 1610) x hret dL_law_1610
      refine z_ite (fun e44_21 => ?_) (fun e44_21 => ?_)
      · refine z_tabIn (pc := 44) (tgt := 1611) x (1567) dL_law_44 e44_21 (by decide) (by decide) rfl rfl ?_
        refine z_aload_n (pc := 1611) x 1 dL_law_1611 rfl rfl ?_
        refine z_aload_n (pc := 1612) x 0 dL_law_1612 rfl rfl ?_
        refine z_iload (pc := 1613) x 5 dL_law_1613 rfl ?_
        refine z_iconst (pc := 1615) x (v := (1 : Int32)) dL_law_1615 rfl ?_
        refine z_iadd (pc := 1616) x dL_law_1616 ?_
        refine z_iald (pc := 1617) x (t := 0) rfl dL_law_1617 fun v1617 => ?_
        refine z_aload_n (pc := 1618) x 3 dL_law_1618 rfl rfl ?_
        refine z_call (pc := 1619) (z_canSX (pc := 1619) (As := [zP a1, zI v1617, zP a3]) (st := []) x (m_X0_variables hl a1 v1617 a3) q1955 q1956 q107 q1957 n_X0_variables ⟨by decide, by decide⟩ (Nat.le_of_ble_eq_true rfl) dL_law_1619) (zv_I fun v1619 => ?_) (fun q => zx_fail)
        refine z_istore (pc := 1622) (lv' := [(6, zI v1619), (0, zP a0), (1, zP a1), (2, zP a2), (3, zP a3), (4, zP a4), (5, zI a5)]) x dL_law_1622 (Nat.le_of_ble_eq_true rfl) rfl ?_
        refine z_aload_n (pc := 1624) x 3 dL_law_1624 rfl rfl ?_
        refine z_aload_n (pc := 1625) x 1 dL_law_1625 rfl rfl ?_
        refine z_iload (pc := 1626) x 6 dL_law_1626 rfl ?_
        refine z_iconst (pc := 1628) x (v := (1 : Int32)) dL_law_1628 rfl ?_
        refine z_iadd (pc := 1629) x dL_law_1629 ?_
        refine z_iald (pc := 1630) x (t := 0) rfl dL_law_1630 fun v1630 => ?_
        refine z_call (pc := 1631) (z_canV (pc := 1631) (As := [zI v1630]) (st := []) x (ci := 34) rfl (fun b => m_X6_variables hl (some b) v1630) q3138 q3139 (x.2.2.2.2.1 _ q3140) q121 q3141 n_X6_variables ⟨by decide, by decide⟩ (Nat.le_of_ble_eq_true rfl) dL_law_1631) (zv_I fun v1631 => ?_) (fun q => zx_fail)
        refine z_istore (pc := 1634) (lv' := [(7, zI v1631), (6, zI v1619), (0, zP a0), (1, zP a1), (2, zP a2), (3, zP a3), (4, zP a4), (5, zI a5)]) x dL_law_1634 (Nat.le_of_ble_eq_true rfl) rfl ?_
        refine z_aload_n (pc := 1636) x 4 dL_law_1636 rfl rfl ?_
        refine z_call (pc := 1637) (z_canV (pc := 1637) (As := []) (st := []) x (ci := 34) rfl (fun b => m_X6_thrown hl (some b)) q2870 q2871 (x.2.2.2.2.1 _ q2872) q121 q2873 n_X6_thrown ⟨by decide, by decide⟩ (Nat.le_of_ble_eq_true rfl) dL_law_1637) (zv_I fun v1637 => ?_) (fun q => zx_fail)
        refine z_iload (pc := 1640) x 1 dL_law_1640 rfl ?_
        refine z_icmp_eq (pc := 1642) (tgt := 1647) x dL_law_1642 rfl (fun _ => ?_) (fun _ => ?_)
        · refine z_iload (pc := 1647) x 1 dL_law_1647 rfl ?_
          refine z_if_ne (pc := 1649) (tgt := 1664) x dL_law_1649 rfl (fun _ => ?_) (fun _ => ?_)
          · refine z_aload_n (pc := 1652) x 5 dL_law_1652 rfl rfl ?_
            refine z_iconst (pc := 1653) x (v := (0 : Int32)) dL_law_1653 rfl ?_
            refine z_lald (pc := 1654) x (t := 3) rfl dL_law_1654 fun v1654 => ?_
            refine z_iload (pc := 1655) x 0 dL_law_1655 rfl ?_
            refine z_i2l (pc := 1657) x dL_law_1657 ?_
            refine z_lcmp (pc := 1658) x dL_law_1658 ?_
            refine z_if_eq (pc := 1659) (tgt := 1664) x dL_law_1659 rfl (fun _ => ?_) (fun _ => ?_)
            · exact z_sub [2, 3, 4, 5, 6, 7] rfl (w_L_law_1664 x hl hret hnm htab h28 a0 a1 a2 a3 a4 a5)
            · refine z_iconst (pc := 1662) x (v := (0 : Int32)) dL_law_1662 rfl ?_
              exact z_zret (pc := 1663) x hret dL_law_1663
          · exact z_sub [2, 3, 4, 5, 6, 7] rfl (w_L_law_1664 x hl hret hnm htab h28 a0 a1 a2 a3 a4 a5)
        · refine z_iconst (pc := 1645) x (v := (0 : Int32)) dL_law_1645 rfl ?_
          exact z_zret (pc := 1646) x hret dL_law_1646
      refine z_ite (fun e44_22 => ?_) (fun e44_22 => ?_)
      · refine z_tabIn (pc := 44) (tgt := 1667) x (1623) dL_law_44 e44_22 (by decide) (by decide) rfl rfl ?_
        refine z_aload_n (pc := 1667) x 1 dL_law_1667 rfl rfl ?_
        refine z_aload_n (pc := 1668) x 0 dL_law_1668 rfl rfl ?_
        refine z_iload (pc := 1669) x 5 dL_law_1669 rfl ?_
        refine z_iconst (pc := 1671) x (v := (1 : Int32)) dL_law_1671 rfl ?_
        refine z_iadd (pc := 1672) x dL_law_1672 ?_
        refine z_iald (pc := 1673) x (t := 0) rfl dL_law_1673 fun v1673 => ?_
        refine z_aload_n (pc := 1674) x 3 dL_law_1674 rfl rfl ?_
        refine z_call (pc := 1675) (z_canSX (pc := 1675) (As := [zP a1, zI v1673, zP a3]) (st := []) x (m_X0_isRecursive hl a1 v1673 a3) q1971 q1972 q107 q1973 n_X0_isRecursive ⟨by decide, by decide⟩ (Nat.le_of_ble_eq_true rfl) dL_law_1675) (zv_I fun v1675 => ?_) (fun q => zx_fail)
        refine z_istore (pc := 1678) (lv' := [(6, zI v1675), (0, zP a0), (1, zP a1), (2, zP a2), (3, zP a3), (4, zP a4), (5, zI a5)]) x dL_law_1678 (Nat.le_of_ble_eq_true rfl) rfl ?_
        refine z_aload_n (pc := 1680) x 3 dL_law_1680 rfl rfl ?_
        refine z_aload_n (pc := 1681) x 1 dL_law_1681 rfl rfl ?_
        refine z_iload (pc := 1682) x 6 dL_law_1682 rfl ?_
        refine z_iconst (pc := 1684) x (v := (1 : Int32)) dL_law_1684 rfl ?_
        refine z_iadd (pc := 1685) x dL_law_1685 ?_
        refine z_iald (pc := 1686) x (t := 0) rfl dL_law_1686 fun v1686 => ?_
        refine z_call (pc := 1687) (z_canV (pc := 1687) (As := [zI v1686]) (st := []) x (ci := 34) rfl (fun b => m_X6_isRecursive hl (some b) v1686) q3142 q3143 (x.2.2.2.2.1 _ q3144) q121 q3145 n_X6_isRecursive ⟨by decide, by decide⟩ (Nat.le_of_ble_eq_true rfl) dL_law_1687) (zv_I fun v1687 => ?_) (fun q => zx_fail)
        refine z_istore (pc := 1690) (lv' := [(7, zI v1687), (6, zI v1675), (0, zP a0), (1, zP a1), (2, zP a2), (3, zP a3), (4, zP a4), (5, zI a5)]) x dL_law_1690 (Nat.le_of_ble_eq_true rfl) rfl ?_
        refine z_aload_n (pc := 1692) x 4 dL_law_1692 rfl rfl ?_
        refine z_call (pc := 1693) (z_canV (pc := 1693) (As := []) (st := []) x (ci := 34) rfl (fun b => m_X6_thrown hl (some b)) q2870 q2871 (x.2.2.2.2.1 _ q2872) q121 q2873 n_X6_thrown ⟨by decide, by decide⟩ (Nat.le_of_ble_eq_true rfl) dL_law_1693) (zv_I fun v1693 => ?_) (fun q => zx_fail)
        refine z_iload (pc := 1696) x 1 dL_law_1696 rfl ?_
        refine z_icmp_eq (pc := 1698) (tgt := 1703) x dL_law_1698 rfl (fun _ => ?_) (fun _ => ?_)
        · refine z_iload (pc := 1703) x 1 dL_law_1703 rfl ?_
          refine z_if_ne (pc := 1705) (tgt := 1727) x dL_law_1705 rfl (fun _ => ?_) (fun _ => ?_)
          · refine z_aload_n (pc := 1708) x 5 dL_law_1708 rfl rfl ?_
            refine z_iconst (pc := 1709) x (v := (0 : Int32)) dL_law_1709 rfl ?_
            refine z_lald (pc := 1710) x (t := 3) rfl dL_law_1710 fun v1710 => ?_
            refine z_iload (pc := 1711) x 0 dL_law_1711 rfl ?_
            refine z_if_eq (pc := 1713) (tgt := 1720) x dL_law_1713 rfl (fun _ => ?_) (fun _ => ?_)
            · refine z_lconst (pc := 1720) x (v := (0 : Int64)) dL_law_1720 rfl ?_
              exact z_sub [2, 3, 4, 5, 6, 7] rfl (w_L_law_1721 x hl hret hnm htab h28 a0 a1 a2 a3 a4 a5 v1710 (0 : Int64))
            · refine z_lconst (pc := 1716) x (v := (1 : Int64)) dL_law_1716 rfl ?_
              refine z_goto (pc := 1717) (tgt := 1721) x dL_law_1717 rfl ?_
              exact z_sub [2, 3, 4, 5, 6, 7] rfl (w_L_law_1721 x hl hret hnm htab h28 a0 a1 a2 a3 a4 a5 v1710 (1 : Int64))
          · exact z_sub [2, 3, 4, 5, 6, 7] rfl (w_L_law_1727 x hl hret hnm htab h28 a0 a1 a2 a3 a4 a5)
        · refine z_iconst (pc := 1701) x (v := (0 : Int32)) dL_law_1701 rfl ?_
          exact z_zret (pc := 1702) x hret dL_law_1702
      refine z_ite (fun e44_23 => ?_) (fun e44_23 => ?_)
      · refine z_tabIn (pc := 44) (tgt := 1730) x (1686) dL_law_44 e44_23 (by decide) (by decide) rfl rfl ?_
        refine z_aload_n (pc := 1730) x 1 dL_law_1730 rfl rfl ?_
        refine z_aload_n (pc := 1731) x 0 dL_law_1731 rfl rfl ?_
        refine z_iload (pc := 1732) x 5 dL_law_1732 rfl ?_
        refine z_iconst (pc := 1734) x (v := (1 : Int32)) dL_law_1734 rfl ?_
        refine z_iadd (pc := 1735) x dL_law_1735 ?_
        refine z_iald (pc := 1736) x (t := 0) rfl dL_law_1736 fun v1736 => ?_
        refine z_aload_n (pc := 1737) x 3 dL_law_1737 rfl rfl ?_
        refine z_call (pc := 1738) (z_canSX (pc := 1738) (As := [zP a1, zI v1736, zP a3]) (st := []) x (m_X0_stepsOf hl a1 v1736 a3) q2031 q2032 q107 q2033 n_X0_stepsOf ⟨by decide, by decide⟩ (Nat.le_of_ble_eq_true rfl) dL_law_1738) (zv_I fun v1738 => ?_) (fun q => zx_fail)
        refine z_istore (pc := 1741) (lv' := [(6, zI v1738), (0, zP a0), (1, zP a1), (2, zP a2), (3, zP a3), (4, zP a4), (5, zI a5)]) x dL_law_1741 (Nat.le_of_ble_eq_true rfl) rfl ?_
        refine z_aload_n (pc := 1743) x 3 dL_law_1743 rfl rfl ?_
        refine z_aload_n (pc := 1744) x 1 dL_law_1744 rfl rfl ?_
        refine z_iload (pc := 1745) x 6 dL_law_1745 rfl ?_
        refine z_iconst (pc := 1747) x (v := (1 : Int32)) dL_law_1747 rfl ?_
        refine z_iadd (pc := 1748) x dL_law_1748 ?_
        refine z_iald (pc := 1749) x (t := 0) rfl dL_law_1749 fun v1749 => ?_
        refine z_call (pc := 1750) (z_canV (pc := 1750) (As := [zI v1749]) (st := []) x (ci := 34) rfl (fun b => m_X6_stepsOf hl (some b) v1749) q3150 q3151 (x.2.2.2.2.1 _ q3152) q121 q3153 n_X6_stepsOf ⟨by decide, by decide⟩ (Nat.le_of_ble_eq_true rfl) dL_law_1750) (zv_I fun v1750 => ?_) (fun q => zx_fail)
        refine z_istore (pc := 1753) (lv' := [(7, zI v1750), (6, zI v1738), (0, zP a0), (1, zP a1), (2, zP a2), (3, zP a3), (4, zP a4), (5, zI a5)]) x dL_law_1753 (Nat.le_of_ble_eq_true rfl) rfl ?_
        refine z_aload_n (pc := 1755) x 4 dL_law_1755 rfl rfl ?_
        refine z_call (pc := 1756) (z_canV (pc := 1756) (As := []) (st := []) x (ci := 34) rfl (fun b => m_X6_thrown hl (some b)) q2870 q2871 (x.2.2.2.2.1 _ q2872) q121 q2873 n_X6_thrown ⟨by decide, by decide⟩ (Nat.le_of_ble_eq_true rfl) dL_law_1756) (zv_I fun v1756 => ?_) (fun q => zx_fail)
        refine z_iload (pc := 1759) x 1 dL_law_1759 rfl ?_
        refine z_icmp_eq (pc := 1761) (tgt := 1766) x dL_law_1761 rfl (fun _ => ?_) (fun _ => ?_)
        · refine z_iload (pc := 1766) x 1 dL_law_1766 rfl ?_
          refine z_if_ne (pc := 1768) (tgt := 1783) x dL_law_1768 rfl (fun _ => ?_) (fun _ => ?_)
          · refine z_aload_n (pc := 1771) x 5 dL_law_1771 rfl rfl ?_
            refine z_iconst (pc := 1772) x (v := (0 : Int32)) dL_law_1772 rfl ?_
            refine z_lald (pc := 1773) x (t := 3) rfl dL_law_1773 fun v1773 => ?_
            refine z_iload (pc := 1774) x 0 dL_law_1774 rfl ?_
            refine z_i2l (pc := 1776) x dL_law_1776 ?_
            refine z_lcmp (pc := 1777) x dL_law_1777 ?_
            refine z_if_eq (pc := 1778) (tgt := 1783) x dL_law_1778 rfl (fun _ => ?_) (fun _ => ?_)
            · exact z_sub [2, 3, 4, 5, 6, 7] rfl (w_L_law_1783 x hl hret hnm htab h28 a0 a1 a2 a3 a4 a5)
            · refine z_iconst (pc := 1781) x (v := (0 : Int32)) dL_law_1781 rfl ?_
              exact z_zret (pc := 1782) x hret dL_law_1782
          · exact z_sub [2, 3, 4, 5, 6, 7] rfl (w_L_law_1783 x hl hret hnm htab h28 a0 a1 a2 a3 a4 a5)
        · refine z_iconst (pc := 1764) x (v := (0 : Int32)) dL_law_1764 rfl ?_
          exact z_zret (pc := 1765) x hret dL_law_1765
      refine z_ite (fun e44_24 => ?_) (fun e44_24 => ?_)
      · refine z_tabIn (pc := 44) (tgt := 1786) x (1742) dL_law_44 e44_24 (by decide) (by decide) rfl rfl ?_
        refine z_aload_n (pc := 1786) x 1 dL_law_1786 rfl rfl ?_
        refine z_aload_n (pc := 1787) x 0 dL_law_1787 rfl rfl ?_
        refine z_iload (pc := 1788) x 5 dL_law_1788 rfl ?_
        refine z_iconst (pc := 1790) x (v := (1 : Int32)) dL_law_1790 rfl ?_
        refine z_iadd (pc := 1791) x dL_law_1791 ?_
        refine z_iald (pc := 1792) x (t := 0) rfl dL_law_1792 fun v1792 => ?_
        refine z_i2c (pc := 1793) x dL_law_1793 ?_
        refine z_aload_n (pc := 1794) x 3 dL_law_1794 rfl rfl ?_
        refine z_call (pc := 1795) (z_canSX (pc := 1795) (As := [zP a1, zI (((v1792).toUInt32 % 65536).toInt32), zP a3]) (st := []) x (m_X0_layerOf hl a1 (((v1792).toUInt32 % 65536).toInt32) a3) q2056 q2057 q107 q2058 n_X0_layerOf ⟨by decide, by decide⟩ (Nat.le_of_ble_eq_true rfl) dL_law_1795) (zv_I fun v1795 => ?_) (fun q => zx_fail)
        refine z_istore (pc := 1798) (lv' := [(6, zI v1795), (0, zP a0), (1, zP a1), (2, zP a2), (3, zP a3), (4, zP a4), (5, zI a5)]) x dL_law_1798 (Nat.le_of_ble_eq_true rfl) rfl ?_
        refine z_aload_n (pc := 1800) x 3 dL_law_1800 rfl rfl ?_
        refine z_aload_n (pc := 1801) x 1 dL_law_1801 rfl rfl ?_
        refine z_iload (pc := 1802) x 6 dL_law_1802 rfl ?_
        refine z_iconst (pc := 1804) x (v := (1 : Int32)) dL_law_1804 rfl ?_
        refine z_iadd (pc := 1805) x dL_law_1805 ?_
        refine z_iald (pc := 1806) x (t := 0) rfl dL_law_1806 fun v1806 => ?_
        refine z_i2c (pc := 1807) x dL_law_1807 ?_
        refine z_call (pc := 1808) (z_canV (pc := 1808) (As := [zI (((v1806).toUInt32 % 65536).toInt32)]) (st := []) x (ci := 34) rfl (fun b => m_X6_layerOf hl (some b) (((v1806).toUInt32 % 65536).toInt32)) q3154 q3155 (x.2.2.2.2.1 _ q3156) q121 q3157 n_X6_layerOf ⟨by decide, by decide⟩ (Nat.le_of_ble_eq_true rfl) dL_law_1808) (zv_I fun v1808 => ?_) (fun q => zx_fail)
        refine z_istore (pc := 1811) (lv' := [(7, zI v1808), (6, zI v1795), (0, zP a0), (1, zP a1), (2, zP a2), (3, zP a3), (4, zP a4), (5, zI a5)]) x dL_law_1811 (Nat.le_of_ble_eq_true rfl) rfl ?_
        refine z_aload_n (pc := 1813) x 4 dL_law_1813 rfl rfl ?_
        refine z_call (pc := 1814) (z_canV (pc := 1814) (As := []) (st := []) x (ci := 34) rfl (fun b => m_X6_thrown hl (some b)) q2870 q2871 (x.2.2.2.2.1 _ q2872) q121 q2873 n_X6_thrown ⟨by decide, by decide⟩ (Nat.le_of_ble_eq_true rfl) dL_law_1814) (zv_I fun v1814 => ?_) (fun q => zx_fail)
        refine z_iload (pc := 1817) x 1 dL_law_1817 rfl ?_
        refine z_icmp_eq (pc := 1819) (tgt := 1824) x dL_law_1819 rfl (fun _ => ?_) (fun _ => ?_)
        · refine z_iload (pc := 1824) x 1 dL_law_1824 rfl ?_
          refine z_if_ne (pc := 1826) (tgt := 1841) x dL_law_1826 rfl (fun _ => ?_) (fun _ => ?_)
          · refine z_aload_n (pc := 1829) x 5 dL_law_1829 rfl rfl ?_
            refine z_iconst (pc := 1830) x (v := (0 : Int32)) dL_law_1830 rfl ?_
            refine z_lald (pc := 1831) x (t := 3) rfl dL_law_1831 fun v1831 => ?_
            refine z_iload (pc := 1832) x 0 dL_law_1832 rfl ?_
            refine z_i2l (pc := 1834) x dL_law_1834 ?_
            refine z_lcmp (pc := 1835) x dL_law_1835 ?_
            refine z_if_eq (pc := 1836) (tgt := 1841) x dL_law_1836 rfl (fun _ => ?_) (fun _ => ?_)
            · exact z_sub [2, 3, 4, 5, 6, 7] rfl (w_L_law_1841 x hl hret hnm htab h28 a0 a1 a2 a3 a4 a5)
            · refine z_iconst (pc := 1839) x (v := (0 : Int32)) dL_law_1839 rfl ?_
              exact z_zret (pc := 1840) x hret dL_law_1840
          · exact z_sub [2, 3, 4, 5, 6, 7] rfl (w_L_law_1841 x hl hret hnm htab h28 a0 a1 a2 a3 a4 a5)
        · refine z_iconst (pc := 1822) x (v := (0 : Int32)) dL_law_1822 rfl ?_
          exact z_zret (pc := 1823) x hret dL_law_1823
      refine z_ite (fun e44_25 => ?_) (fun e44_25 => ?_)
      · refine z_tabIn (pc := 44) (tgt := 1844) x (1800) dL_law_44 e44_25 (by decide) (by decide) rfl rfl ?_
        refine z_aload_n (pc := 1844) x 1 dL_law_1844 rfl rfl ?_
        refine z_aload_n (pc := 1845) x 0 dL_law_1845 rfl rfl ?_
        refine z_iload (pc := 1846) x 5 dL_law_1846 rfl ?_
        refine z_iconst (pc := 1848) x (v := (1 : Int32)) dL_law_1848 rfl ?_
        refine z_iadd (pc := 1849) x dL_law_1849 ?_
        refine z_iald (pc := 1850) x (t := 0) rfl dL_law_1850 fun v1850 => ?_
        refine z_i2c (pc := 1851) x dL_law_1851 ?_
        refine z_aload_n (pc := 1852) x 3 dL_law_1852 rfl rfl ?_
        refine z_call (pc := 1853) (z_canSX (pc := 1853) (As := [zP a1, zI (((v1850).toUInt32 % 65536).toInt32), zP a3]) (st := []) x (m_X0_layerByChains hl a1 (((v1850).toUInt32 % 65536).toInt32) a3) q2066 q2067 q107 q2068 n_X0_layerByChains ⟨by decide, by decide⟩ (Nat.le_of_ble_eq_true rfl) dL_law_1853) (zv_I fun v1853 => ?_) (fun q => zx_fail)
        refine z_istore (pc := 1856) (lv' := [(6, zI v1853), (0, zP a0), (1, zP a1), (2, zP a2), (3, zP a3), (4, zP a4), (5, zI a5)]) x dL_law_1856 (Nat.le_of_ble_eq_true rfl) rfl ?_
        refine z_aload_n (pc := 1858) x 3 dL_law_1858 rfl rfl ?_
        refine z_aload_n (pc := 1859) x 1 dL_law_1859 rfl rfl ?_
        refine z_iload (pc := 1860) x 6 dL_law_1860 rfl ?_
        refine z_iconst (pc := 1862) x (v := (1 : Int32)) dL_law_1862 rfl ?_
        refine z_iadd (pc := 1863) x dL_law_1863 ?_
        refine z_iald (pc := 1864) x (t := 0) rfl dL_law_1864 fun v1864 => ?_
        refine z_i2c (pc := 1865) x dL_law_1865 ?_
        refine z_call (pc := 1866) (z_canV (pc := 1866) (As := [zI (((v1864).toUInt32 % 65536).toInt32)]) (st := []) x (ci := 34) rfl (fun b => m_X6_layerByChains hl (some b) (((v1864).toUInt32 % 65536).toInt32)) q3158 q3159 (x.2.2.2.2.1 _ q3160) q121 q3161 n_X6_layerByChains ⟨by decide, by decide⟩ (Nat.le_of_ble_eq_true rfl) dL_law_1866) (zv_I fun v1866 => ?_) (fun q => zx_fail)
        refine z_istore (pc := 1869) (lv' := [(7, zI v1866), (6, zI v1853), (0, zP a0), (1, zP a1), (2, zP a2), (3, zP a3), (4, zP a4), (5, zI a5)]) x dL_law_1869 (Nat.le_of_ble_eq_true rfl) rfl ?_
        refine z_aload_n (pc := 1871) x 4 dL_law_1871 rfl rfl ?_
        refine z_call (pc := 1872) (z_canV (pc := 1872) (As := []) (st := []) x (ci := 34) rfl (fun b => m_X6_thrown hl (some b)) q2870 q2871 (x.2.2.2.2.1 _ q2872) q121 q2873 n_X6_thrown ⟨by decide, by decide⟩ (Nat.le_of_ble_eq_true rfl) dL_law_1872) (zv_I fun v1872 => ?_) (fun q => zx_fail)
        refine z_iload (pc := 1875) x 1 dL_law_1875 rfl ?_
        refine z_icmp_eq (pc := 1877) (tgt := 1882) x dL_law_1877 rfl (fun _ => ?_) (fun _ => ?_)
        · refine z_iload (pc := 1882) x 1 dL_law_1882 rfl ?_
          refine z_if_ne (pc := 1884) (tgt := 1899) x dL_law_1884 rfl (fun _ => ?_) (fun _ => ?_)
          · refine z_aload_n (pc := 1887) x 5 dL_law_1887 rfl rfl ?_
            refine z_iconst (pc := 1888) x (v := (0 : Int32)) dL_law_1888 rfl ?_
            refine z_lald (pc := 1889) x (t := 3) rfl dL_law_1889 fun v1889 => ?_
            refine z_iload (pc := 1890) x 0 dL_law_1890 rfl ?_
            refine z_i2l (pc := 1892) x dL_law_1892 ?_
            refine z_lcmp (pc := 1893) x dL_law_1893 ?_
            refine z_if_eq (pc := 1894) (tgt := 1899) x dL_law_1894 rfl (fun _ => ?_) (fun _ => ?_)
            · exact z_sub [2, 3, 4, 5, 6, 7] rfl (w_L_law_1899 x hl hret hnm htab h28 a0 a1 a2 a3 a4 a5)
            · refine z_iconst (pc := 1897) x (v := (0 : Int32)) dL_law_1897 rfl ?_
              exact z_zret (pc := 1898) x hret dL_law_1898
          · exact z_sub [2, 3, 4, 5, 6, 7] rfl (w_L_law_1899 x hl hret hnm htab h28 a0 a1 a2 a3 a4 a5)
        · refine z_iconst (pc := 1880) x (v := (0 : Int32)) dL_law_1880 rfl ?_
          exact z_zret (pc := 1881) x hret dL_law_1881
      refine z_ite (fun e44_26 => ?_) (fun e44_26 => ?_)
      · refine z_tabIn (pc := 44) (tgt := 1902) x (1858) dL_law_44 e44_26 (by decide) (by decide) rfl rfl ?_
        refine z_aload_n (pc := 1902) x 1 dL_law_1902 rfl rfl ?_
        refine z_aload_n (pc := 1903) x 0 dL_law_1903 rfl rfl ?_
        refine z_iload (pc := 1904) x 5 dL_law_1904 rfl ?_
        refine z_iconst (pc := 1906) x (v := (1 : Int32)) dL_law_1906 rfl ?_
        refine z_iadd (pc := 1907) x dL_law_1907 ?_
        refine z_iald (pc := 1908) x (t := 0) rfl dL_law_1908 fun v1908 => ?_
        refine z_i2c (pc := 1909) x dL_law_1909 ?_
        refine z_aload_n (pc := 1910) x 0 dL_law_1910 rfl rfl ?_
        refine z_iload (pc := 1911) x 5 dL_law_1911 rfl ?_
        refine z_iconst (pc := 1913) x (v := (2 : Int32)) dL_law_1913 rfl ?_
        refine z_iadd (pc := 1914) x dL_law_1914 ?_
        refine z_iald (pc := 1915) x (t := 0) rfl dL_law_1915 fun v1915 => ?_
        refine z_i2c (pc := 1916) x dL_law_1916 ?_
        refine z_aload_n (pc := 1917) x 3 dL_law_1917 rfl rfl ?_
        refine z_call (pc := 1918) (z_canSX (pc := 1918) (As := [zP a1, zI (((v1908).toUInt32 % 65536).toInt32), zI (((v1915).toUInt32 % 65536).toInt32), zP a3]) (st := []) x (m_X0_dependsOn hl a1 (((v1908).toUInt32 % 65536).toInt32) (((v1915).toUInt32 % 65536).toInt32) a3) q2074 q2075 q107 q2076 n_X0_dependsOn ⟨by decide, by decide⟩ (Nat.le_of_ble_eq_true rfl) dL_law_1918) (zv_I fun v1918 => ?_) (fun q => zx_fail)
        refine z_istore (pc := 1921) (lv' := [(6, zI v1918), (0, zP a0), (1, zP a1), (2, zP a2), (3, zP a3), (4, zP a4), (5, zI a5)]) x dL_law_1921 (Nat.le_of_ble_eq_true rfl) rfl ?_
        refine z_aload_n (pc := 1923) x 3 dL_law_1923 rfl rfl ?_
        refine z_aload_n (pc := 1924) x 1 dL_law_1924 rfl rfl ?_
        refine z_iload (pc := 1925) x 6 dL_law_1925 rfl ?_
        refine z_iconst (pc := 1927) x (v := (1 : Int32)) dL_law_1927 rfl ?_
        refine z_iadd (pc := 1928) x dL_law_1928 ?_
        refine z_iald (pc := 1929) x (t := 0) rfl dL_law_1929 fun v1929 => ?_
        refine z_i2c (pc := 1930) x dL_law_1930 ?_
        refine z_aload_n (pc := 1931) x 1 dL_law_1931 rfl rfl ?_
        refine z_iload (pc := 1932) x 6 dL_law_1932 rfl ?_
        refine z_iconst (pc := 1934) x (v := (2 : Int32)) dL_law_1934 rfl ?_
        refine z_iadd (pc := 1935) x dL_law_1935 ?_
        refine z_iald (pc := 1936) x (t := 0) rfl dL_law_1936 fun v1936 => ?_
        refine z_i2c (pc := 1937) x dL_law_1937 ?_
        refine z_call (pc := 1938) (z_canV (pc := 1938) (As := [zI (((v1929).toUInt32 % 65536).toInt32), zI (((v1936).toUInt32 % 65536).toInt32)]) (st := []) x (ci := 34) rfl (fun b => m_X6_dependsOn hl (some b) (((v1929).toUInt32 % 65536).toInt32) (((v1936).toUInt32 % 65536).toInt32)) q3163 q3164 (x.2.2.2.2.1 _ q3165) q121 q3166 n_X6_dependsOn ⟨by decide, by decide⟩ (Nat.le_of_ble_eq_true rfl) dL_law_1938) (zv_I fun v1938 => ?_) (fun q => zx_fail)
        refine z_istore (pc := 1941) (lv' := [(7, zI v1938), (6, zI v1918), (0, zP a0), (1, zP a1), (2, zP a2), (3, zP a3), (4, zP a4), (5, zI a5)]) x dL_law_1941 (Nat.le_of_ble_eq_true rfl) rfl ?_
        refine z_aload_n (pc := 1943) x 4 dL_law_1943 rfl rfl ?_
        refine z_call (pc := 1944) (z_canV (pc := 1944) (As := []) (st := []) x (ci := 34) rfl (fun b => m_X6_thrown hl (some b)) q2870 q2871 (x.2.2.2.2.1 _ q2872) q121 q2873 n_X6_thrown ⟨by decide, by decide⟩ (Nat.le_of_ble_eq_true rfl) dL_law_1944) (zv_I fun v1944 => ?_) (fun q => zx_fail)
        refine z_iload (pc := 1947) x 1 dL_law_1947 rfl ?_
        refine z_icmp_eq (pc := 1949) (tgt := 1954) x dL_law_1949 rfl (fun _ => ?_) (fun _ => ?_)
        · refine z_iload (pc := 1954) x 1 dL_law_1954 rfl ?_
          refine z_if_ne (pc := 1956) (tgt := 1978) x dL_law_1956 rfl (fun _ => ?_) (fun _ => ?_)
          · refine z_aload_n (pc := 1959) x 5 dL_law_1959 rfl rfl ?_
            refine z_iconst (pc := 1960) x (v := (0 : Int32)) dL_law_1960 rfl ?_
            refine z_lald (pc := 1961) x (t := 3) rfl dL_law_1961 fun v1961 => ?_
            refine z_iload (pc := 1962) x 0 dL_law_1962 rfl ?_
            refine z_if_eq (pc := 1964) (tgt := 1971) x dL_law_1964 rfl (fun _ => ?_) (fun _ => ?_)
            · refine z_lconst (pc := 1971) x (v := (0 : Int64)) dL_law_1971 rfl ?_
              exact z_sub [2, 3, 4, 5, 6, 7] rfl (w_L_law_1972 x hl hret hnm htab h28 a0 a1 a2 a3 a4 a5 v1961 (0 : Int64))
            · refine z_lconst (pc := 1967) x (v := (1 : Int64)) dL_law_1967 rfl ?_
              refine z_goto (pc := 1968) (tgt := 1972) x dL_law_1968 rfl ?_
              exact z_sub [2, 3, 4, 5, 6, 7] rfl (w_L_law_1972 x hl hret hnm htab h28 a0 a1 a2 a3 a4 a5 v1961 (1 : Int64))
          · exact z_sub [2, 3, 4, 5, 6, 7] rfl (w_L_law_1978 x hl hret hnm htab h28 a0 a1 a2 a3 a4 a5)
        · refine z_iconst (pc := 1952) x (v := (0 : Int32)) dL_law_1952 rfl ?_
          exact z_zret (pc := 1953) x hret dL_law_1953
      refine z_ite (fun e44_27 => ?_) (fun e44_27 => ?_)
      · refine z_tabIn (pc := 44) (tgt := 1981) x (1937) dL_law_44 e44_27 (by decide) (by decide) rfl rfl ?_
        refine z_aload_n (pc := 1981) x 1 dL_law_1981 rfl rfl ?_
        refine z_call (pc := 1982) (z_canV (pc := 1982) (As := []) (st := []) x (ci := 16) rfl (fun b => m_X1_givenByAccounts hl (some b)) q881 q882 (x.2.2.2.2.1 _ q883) q108 q884 n_X1_givenByAccounts ⟨by decide, by decide⟩ (Nat.le_of_ble_eq_true rfl) dL_law_1982) (zv_I fun v1982 => ?_) (fun q => zx_fail)
        refine z_aload_n (pc := 1985) x 2 dL_law_1985 rfl rfl ?_
        refine z_call (pc := 1986) (z_canV (pc := 1986) (As := []) (st := [zI v1982]) x (ci := 34) rfl (fun b => m_X6_givenByAccounts hl (some b)) q3167 q3168 (x.2.2.2.2.1 _ q3169) q121 q3170 n_X6_givenByAccounts ⟨by decide, by decide⟩ (Nat.le_of_ble_eq_true rfl) dL_law_1986) (zv_I fun v1986 => ?_) (fun q => zx_fail)
        refine z_icmp_eq (pc := 1989) (tgt := 2702) x dL_law_1989 rfl (fun _ => ?_) (fun _ => ?_)
        · exact z_sub [0, 1, 2, 3, 4, 5] rfl (w_L_law_2702 x hl hret hnm htab h28 a0 a1 a2 a3 a4 a5)
        · refine z_iconst (pc := 1992) x (v := (0 : Int32)) dL_law_1992 rfl ?_
          exact z_zret (pc := 1993) x hret dL_law_1993
      refine z_ite (fun e44_28 => ?_) (fun e44_28 => ?_)
      · refine z_tabIn (pc := 44) (tgt := 1994) x (1950) dL_law_44 e44_28 (by decide) (by decide) rfl rfl ?_
        refine z_aload_n (pc := 1994) x 1 dL_law_1994 rfl rfl ?_
        refine z_aload_n (pc := 1995) x 3 dL_law_1995 rfl rfl ?_
        refine z_call (pc := 1996) (z_canSX (pc := 1996) (As := [zP a1, zP a3]) (st := []) x (m_X0_reason hl a1 a3) q2082 q2083 q107 q2084 n_X0_reason ⟨by decide, by decide⟩ (Nat.le_of_ble_eq_true rfl) dL_law_1996) (zv_I fun v1996 => ?_) (fun q => zx_fail)
        refine z_istore (pc := 1999) (lv' := [(6, zI v1996), (0, zP a0), (1, zP a1), (2, zP a2), (3, zP a3), (4, zP a4), (5, zI a5)]) x dL_law_1999 (Nat.le_of_ble_eq_true rfl) rfl ?_
        refine z_aload_n (pc := 2001) x 3 dL_law_2001 rfl rfl ?_
        refine z_call (pc := 2002) (z_canV (pc := 2002) (As := []) (st := []) x (ci := 34) rfl (fun b => m_X6_reason hl (some b)) q3171 q3172 (x.2.2.2.2.1 _ q3173) q121 q3174 n_X6_reason ⟨by decide, by decide⟩ (Nat.le_of_ble_eq_true rfl) dL_law_2002) (zv_I fun v2002 => ?_) (fun q => zx_fail)
        refine z_istore (pc := 2005) (lv' := [(7, zI v2002), (6, zI v1996), (0, zP a0), (1, zP a1), (2, zP a2), (3, zP a3), (4, zP a4), (5, zI a5)]) x dL_law_2005 (Nat.le_of_ble_eq_true rfl) rfl ?_
        refine z_aload_n (pc := 2007) x 4 dL_law_2007 rfl rfl ?_
        refine z_call (pc := 2008) (z_canV (pc := 2008) (As := []) (st := []) x (ci := 34) rfl (fun b => m_X6_thrown hl (some b)) q2870 q2871 (x.2.2.2.2.1 _ q2872) q121 q2873 n_X6_thrown ⟨by decide, by decide⟩ (Nat.le_of_ble_eq_true rfl) dL_law_2008) (zv_I fun v2008 => ?_) (fun q => zx_fail)
        refine z_iload (pc := 2011) x 1 dL_law_2011 rfl ?_
        refine z_icmp_eq (pc := 2013) (tgt := 2018) x dL_law_2013 rfl (fun _ => ?_) (fun _ => ?_)
        · refine z_iload (pc := 2018) x 1 dL_law_2018 rfl ?_
          refine z_if_ne (pc := 2020) (tgt := 2035) x dL_law_2020 rfl (fun _ => ?_) (fun _ => ?_)
          · refine z_aload_n (pc := 2023) x 5 dL_law_2023 rfl rfl ?_
            refine z_iconst (pc := 2024) x (v := (0 : Int32)) dL_law_2024 rfl ?_
            refine z_lald (pc := 2025) x (t := 3) rfl dL_law_2025 fun v2025 => ?_
            refine z_iload (pc := 2026) x 0 dL_law_2026 rfl ?_
            refine z_i2l (pc := 2028) x dL_law_2028 ?_
            refine z_lcmp (pc := 2029) x dL_law_2029 ?_
            refine z_if_eq (pc := 2030) (tgt := 2035) x dL_law_2030 rfl (fun _ => ?_) (fun _ => ?_)
            · exact z_sub [2, 3, 4, 5, 6, 7] rfl (w_L_law_2035 x hl hret hnm htab h28 a0 a1 a2 a3 a4 a5)
            · refine z_iconst (pc := 2033) x (v := (0 : Int32)) dL_law_2033 rfl ?_
              exact z_zret (pc := 2034) x hret dL_law_2034
          · exact z_sub [2, 3, 4, 5, 6, 7] rfl (w_L_law_2035 x hl hret hnm htab h28 a0 a1 a2 a3 a4 a5)
        · refine z_iconst (pc := 2016) x (v := (0 : Int32)) dL_law_2016 rfl ?_
          exact z_zret (pc := 2017) x hret dL_law_2017
      refine z_ite (fun e44_29 => ?_) (fun e44_29 => ?_)
      · refine z_tabIn (pc := 44) (tgt := 2038) x (1994) dL_law_44 e44_29 (by decide) (by decide) rfl rfl ?_
        refine z_aload_n (pc := 2038) x 1 dL_law_2038 rfl rfl ?_
        refine z_aload_n (pc := 2039) x 3 dL_law_2039 rfl rfl ?_
        refine z_call (pc := 2040) (z_canSX (pc := 2040) (As := [zP a1, zP a3]) (st := []) x (m_X0_detail hl a1 a3) q2093 q2094 q107 q2095 n_X0_detail ⟨by decide, by decide⟩ (Nat.le_of_ble_eq_true rfl) dL_law_2040) (zv_I fun v2040 => ?_) (fun q => zx_fail)
        refine z_istore (pc := 2043) (lv' := [(6, zI v2040), (0, zP a0), (1, zP a1), (2, zP a2), (3, zP a3), (4, zP a4), (5, zI a5)]) x dL_law_2043 (Nat.le_of_ble_eq_true rfl) rfl ?_
        refine z_aload_n (pc := 2045) x 3 dL_law_2045 rfl rfl ?_
        refine z_call (pc := 2046) (z_canV (pc := 2046) (As := []) (st := []) x (ci := 34) rfl (fun b => m_X6_detail hl (some b)) q3175 q3176 (x.2.2.2.2.1 _ q3177) q121 q3178 n_X6_detail ⟨by decide, by decide⟩ (Nat.le_of_ble_eq_true rfl) dL_law_2046) (zv_I fun v2046 => ?_) (fun q => zx_fail)
        refine z_istore (pc := 2049) (lv' := [(7, zI v2046), (6, zI v2040), (0, zP a0), (1, zP a1), (2, zP a2), (3, zP a3), (4, zP a4), (5, zI a5)]) x dL_law_2049 (Nat.le_of_ble_eq_true rfl) rfl ?_
        refine z_aload_n (pc := 2051) x 4 dL_law_2051 rfl rfl ?_
        refine z_call (pc := 2052) (z_canV (pc := 2052) (As := []) (st := []) x (ci := 34) rfl (fun b => m_X6_thrown hl (some b)) q2870 q2871 (x.2.2.2.2.1 _ q2872) q121 q2873 n_X6_thrown ⟨by decide, by decide⟩ (Nat.le_of_ble_eq_true rfl) dL_law_2052) (zv_I fun v2052 => ?_) (fun q => zx_fail)
        refine z_iload (pc := 2055) x 1 dL_law_2055 rfl ?_
        refine z_icmp_eq (pc := 2057) (tgt := 2062) x dL_law_2057 rfl (fun _ => ?_) (fun _ => ?_)
        · refine z_iload (pc := 2062) x 1 dL_law_2062 rfl ?_
          refine z_if_ne (pc := 2064) (tgt := 2079) x dL_law_2064 rfl (fun _ => ?_) (fun _ => ?_)
          · refine z_aload_n (pc := 2067) x 5 dL_law_2067 rfl rfl ?_
            refine z_iconst (pc := 2068) x (v := (0 : Int32)) dL_law_2068 rfl ?_
            refine z_lald (pc := 2069) x (t := 3) rfl dL_law_2069 fun v2069 => ?_
            refine z_iload (pc := 2070) x 0 dL_law_2070 rfl ?_
            refine z_i2l (pc := 2072) x dL_law_2072 ?_
            refine z_lcmp (pc := 2073) x dL_law_2073 ?_
            refine z_if_eq (pc := 2074) (tgt := 2079) x dL_law_2074 rfl (fun _ => ?_) (fun _ => ?_)
            · exact z_sub [2, 3, 4, 5, 6, 7] rfl (w_L_law_2079 x hl hret hnm htab h28 a0 a1 a2 a3 a4 a5)
            · refine z_iconst (pc := 2077) x (v := (0 : Int32)) dL_law_2077 rfl ?_
              exact z_zret (pc := 2078) x hret dL_law_2078
          · exact z_sub [2, 3, 4, 5, 6, 7] rfl (w_L_law_2079 x hl hret hnm htab h28 a0 a1 a2 a3 a4 a5)
        · refine z_iconst (pc := 2060) x (v := (0 : Int32)) dL_law_2060 rfl ?_
          exact z_zret (pc := 2061) x hret dL_law_2061
      refine z_ite (fun e44_30 => ?_) (fun e44_30 => ?_)
      · refine z_tabIn (pc := 44) (tgt := 2082) x (2038) dL_law_44 e44_30 (by decide) (by decide) rfl rfl ?_
        refine z_aload_n (pc := 2082) x 1 dL_law_2082 rfl rfl ?_
        refine z_aload (pc := 2083) x 4 dL_law_2083 rfl ?_
        refine z_call (pc := 2085) (z_canSX (pc := 2085) (As := [zP a1, zP a4]) (st := []) x (m_X0_meanHeight hl a1 a4) q2100 q2101 q107 q2102 n_X0_meanHeight ⟨by decide, by decide⟩ (Nat.le_of_ble_eq_true rfl) dL_law_2085) (zv_I fun v2085 => ?_) (fun q => zx_fail)
        refine z_istore (pc := 2088) (lv' := [(6, zI v2085), (0, zP a0), (1, zP a1), (2, zP a2), (3, zP a3), (4, zP a4), (5, zI a5)]) x dL_law_2088 (Nat.le_of_ble_eq_true rfl) rfl ?_
        refine z_aload_n (pc := 2090) x 3 dL_law_2090 rfl rfl ?_
        refine z_call (pc := 2091) (z_canV (pc := 2091) (As := []) (st := []) x (ci := 34) rfl (fun b => m_X6_meanHeight hl (some b)) q3179 q3180 (x.2.2.2.2.1 _ q3181) q121 q3182 n_X6_meanHeight ⟨by decide, by decide⟩ (Nat.le_of_ble_eq_true rfl) dL_law_2091) (zv_D fun v2091 => ?_) (fun q => zx_fail)
        refine z_dstore (pc := 2094) (lv' := [(7, zD v2091), (6, zI v2085), (0, zP a0), (1, zP a1), (2, zP a2), (3, zP a3), (4, zP a4), (5, zI a5)]) x dL_law_2094 (Nat.le_of_ble_eq_true rfl) rfl ?_
        refine z_aload_n (pc := 2096) x 4 dL_law_2096 rfl rfl ?_
        refine z_call (pc := 2097) (z_canV (pc := 2097) (As := []) (st := []) x (ci := 34) rfl (fun b => m_X6_thrown hl (some b)) q2870 q2871 (x.2.2.2.2.1 _ q2872) q121 q2873 n_X6_thrown ⟨by decide, by decide⟩ (Nat.le_of_ble_eq_true rfl) dL_law_2097) (zv_I fun v2097 => ?_) (fun q => zx_fail)
        refine z_iload (pc := 2100) x 1 dL_law_2100 rfl ?_
        refine z_icmp_eq (pc := 2102) (tgt := 2107) x dL_law_2102 rfl (fun _ => ?_) (fun _ => ?_)
        · refine z_iload (pc := 2107) x 1 dL_law_2107 rfl ?_
          refine z_if_ne (pc := 2109) (tgt := 2144) x dL_law_2109 rfl (fun _ => ?_) (fun _ => ?_)
          · refine z_aload (pc := 2112) x 6 dL_law_2112 rfl ?_
            refine z_iconst (pc := 2114) x (v := (0 : Int32)) dL_law_2114 rfl ?_
            refine z_dald (pc := 2115) x (t := 4) rfl dL_law_2115 fun v2115 => ?_
            refine z_dload (pc := 2116) x 0 dL_law_2116 rfl ?_
            refine z_dcmp (pc := 2118) x dL_law_2118 ?_
            refine z_if_eq (pc := 2119) (tgt := 2144) x dL_law_2119 rfl (fun _ => ?_) (fun _ => ?_)
            · exact z_sub [2, 3, 4, 5, 6, 7] rfl (w_L_law_2144 x hl hret hnm htab h28 a0 a1 a2 a3 a4 a5)
            · refine z_aload (pc := 2122) x 6 dL_law_2122 rfl ?_
              refine z_iconst (pc := 2124) x (v := (0 : Int32)) dL_law_2124 rfl ?_
              refine z_dald (pc := 2125) x (t := 4) rfl dL_law_2125 fun v2125 => ?_
              refine z_aload (pc := 2126) x 6 dL_law_2126 rfl ?_
              refine z_iconst (pc := 2128) x (v := (0 : Int32)) dL_law_2128 rfl ?_
              refine z_dald (pc := 2129) x (t := 4) rfl dL_law_2129 fun v2129 => ?_
              refine z_dcmp (pc := 2130) x dL_law_2130 ?_
              refine z_if_eq (pc := 2131) (tgt := 2142) x dL_law_2131 rfl (fun _ => ?_) (fun _ => ?_)
              · refine z_iconst (pc := 2142) x (v := (0 : Int32)) dL_law_2142 rfl ?_
                exact z_zret (pc := 2143) x hret dL_law_2143
              · refine z_dload (pc := 2134) x 0 dL_law_2134 rfl ?_
                refine z_dload (pc := 2136) x 0 dL_law_2136 rfl ?_
                refine z_dcmp (pc := 2138) x dL_law_2138 ?_
                refine z_if_ne (pc := 2139) (tgt := 2144) x dL_law_2139 rfl (fun _ => ?_) (fun _ => ?_)
                · refine z_iconst (pc := 2142) x (v := (0 : Int32)) dL_law_2142 rfl ?_
                  exact z_zret (pc := 2143) x hret dL_law_2143
                · exact z_sub [2, 3, 4, 5, 6, 7] rfl (w_L_law_2144 x hl hret hnm htab h28 a0 a1 a2 a3 a4 a5)
          · exact z_sub [2, 3, 4, 5, 6, 7] rfl (w_L_law_2144 x hl hret hnm htab h28 a0 a1 a2 a3 a4 a5)
        · refine z_iconst (pc := 2105) x (v := (0 : Int32)) dL_law_2105 rfl ?_
          exact z_zret (pc := 2106) x hret dL_law_2106
      refine z_ite (fun e44_31 => ?_) (fun e44_31 => ?_)
      · refine z_tabIn (pc := 44) (tgt := 2147) x (2103) dL_law_44 e44_31 (by decide) (by decide) rfl rfl ?_
        refine z_aload_n (pc := 2147) x 1 dL_law_2147 rfl rfl ?_
        refine z_aload (pc := 2148) x 4 dL_law_2148 rfl ?_
        refine z_call (pc := 2150) (z_canSX (pc := 2150) (As := [zP a1, zP a4]) (st := []) x (m_X0_derivedShare hl a1 a4) q2133 q2134 q107 q2135 n_X0_derivedShare ⟨by decide, by decide⟩ (Nat.le_of_ble_eq_true rfl) dL_law_2150) (zv_I fun v2150 => ?_) (fun q => zx_fail)
        refine z_istore (pc := 2153) (lv' := [(6, zI v2150), (0, zP a0), (1, zP a1), (2, zP a2), (3, zP a3), (4, zP a4), (5, zI a5)]) x dL_law_2153 (Nat.le_of_ble_eq_true rfl) rfl ?_
        refine z_aload_n (pc := 2155) x 3 dL_law_2155 rfl rfl ?_
        refine z_call (pc := 2156) (z_canV (pc := 2156) (As := []) (st := []) x (ci := 34) rfl (fun b => m_X6_derivedShare hl (some b)) q3183 q3184 (x.2.2.2.2.1 _ q3185) q121 q3186 n_X6_derivedShare ⟨by decide, by decide⟩ (Nat.le_of_ble_eq_true rfl) dL_law_2156) (zv_F fun v2156 => ?_) (fun q => zx_fail)
        refine z_fstore (pc := 2159) (lv' := [(7, zF v2156), (6, zI v2150), (0, zP a0), (1, zP a1), (2, zP a2), (3, zP a3), (4, zP a4), (5, zI a5)]) x dL_law_2159 (Nat.le_of_ble_eq_true rfl) rfl ?_
        refine z_aload_n (pc := 2161) x 4 dL_law_2161 rfl rfl ?_
        refine z_call (pc := 2162) (z_canV (pc := 2162) (As := []) (st := []) x (ci := 34) rfl (fun b => m_X6_thrown hl (some b)) q2870 q2871 (x.2.2.2.2.1 _ q2872) q121 q2873 n_X6_thrown ⟨by decide, by decide⟩ (Nat.le_of_ble_eq_true rfl) dL_law_2162) (zv_I fun v2162 => ?_) (fun q => zx_fail)
        refine z_iload (pc := 2165) x 1 dL_law_2165 rfl ?_
        refine z_icmp_eq (pc := 2167) (tgt := 2172) x dL_law_2167 rfl (fun _ => ?_) (fun _ => ?_)
        · refine z_iload (pc := 2172) x 1 dL_law_2172 rfl ?_
          refine z_if_ne (pc := 2174) (tgt := 2210) x dL_law_2174 rfl (fun _ => ?_) (fun _ => ?_)
          · refine z_aload (pc := 2177) x 6 dL_law_2177 rfl ?_
            refine z_iconst (pc := 2179) x (v := (0 : Int32)) dL_law_2179 rfl ?_
            refine z_dald (pc := 2180) x (t := 4) rfl dL_law_2180 fun v2180 => ?_
            refine z_fload (pc := 2181) x 0 dL_law_2181 rfl ?_
            refine z_f2d (pc := 2183) x dL_law_2183 fun v2183 => ?_
            refine z_dcmp (pc := 2184) x dL_law_2184 ?_
            refine z_if_eq (pc := 2185) (tgt := 2210) x dL_law_2185 rfl (fun _ => ?_) (fun _ => ?_)
            · exact z_sub [2, 3, 4, 5, 6, 7] rfl (w_L_law_2210 x hl hret hnm htab h28 a0 a1 a2 a3 a4 a5)
            · refine z_aload (pc := 2188) x 6 dL_law_2188 rfl ?_
              refine z_iconst (pc := 2190) x (v := (0 : Int32)) dL_law_2190 rfl ?_
              refine z_dald (pc := 2191) x (t := 4) rfl dL_law_2191 fun v2191 => ?_
              refine z_aload (pc := 2192) x 6 dL_law_2192 rfl ?_
              refine z_iconst (pc := 2194) x (v := (0 : Int32)) dL_law_2194 rfl ?_
              refine z_dald (pc := 2195) x (t := 4) rfl dL_law_2195 fun v2195 => ?_
              refine z_dcmp (pc := 2196) x dL_law_2196 ?_
              refine z_if_eq (pc := 2197) (tgt := 2208) x dL_law_2197 rfl (fun _ => ?_) (fun _ => ?_)
              · refine z_iconst (pc := 2208) x (v := (0 : Int32)) dL_law_2208 rfl ?_
                exact z_zret (pc := 2209) x hret dL_law_2209
              · refine z_fload (pc := 2200) x 0 dL_law_2200 rfl ?_
                refine z_fload (pc := 2202) x 0 dL_law_2202 rfl ?_
                refine z_fcmp (pc := 2204) x dL_law_2204 ?_
                refine z_if_ne (pc := 2205) (tgt := 2210) x dL_law_2205 rfl (fun _ => ?_) (fun _ => ?_)
                · refine z_iconst (pc := 2208) x (v := (0 : Int32)) dL_law_2208 rfl ?_
                  exact z_zret (pc := 2209) x hret dL_law_2209
                · exact z_sub [2, 3, 4, 5, 6, 7] rfl (w_L_law_2210 x hl hret hnm htab h28 a0 a1 a2 a3 a4 a5)
          · exact z_sub [2, 3, 4, 5, 6, 7] rfl (w_L_law_2210 x hl hret hnm htab h28 a0 a1 a2 a3 a4 a5)
        · refine z_iconst (pc := 2170) x (v := (0 : Int32)) dL_law_2170 rfl ?_
          exact z_zret (pc := 2171) x hret dL_law_2171
      refine z_ite (fun e44_32 => ?_) (fun e44_32 => ?_)
      · refine z_tabIn (pc := 44) (tgt := 2213) x (2169) dL_law_44 e44_32 (by decide) (by decide) rfl rfl ?_
        refine z_aload_n (pc := 2213) x 1 dL_law_2213 rfl rfl ?_
        refine z_call (pc := 2214) (z_canV (pc := 2214) (As := []) (st := []) x (ci := 16) rfl (fun b => m_X1_isConsistent hl (some b)) q889 q890 (x.2.2.2.2.1 _ q891) q108 q892 n_X1_isConsistent ⟨by decide, by decide⟩ (Nat.le_of_ble_eq_true rfl) dL_law_2214) (zv_I fun v2214 => ?_) (fun q => zx_fail)
        refine z_aload_n (pc := 2217) x 2 dL_law_2217 rfl rfl ?_
        refine z_call (pc := 2218) (z_canV (pc := 2218) (As := []) (st := [zI v2214]) x (ci := 34) rfl (fun b => m_X6_isConsistent hl (some b)) q3187 q3188 (x.2.2.2.2.1 _ q3189) q121 q3190 n_X6_isConsistent ⟨by decide, by decide⟩ (Nat.le_of_ble_eq_true rfl) dL_law_2218) (zv_I fun v2218 => ?_) (fun q => zx_fail)
        refine z_icmp_eq (pc := 2221) (tgt := 2702) x dL_law_2221 rfl (fun _ => ?_) (fun _ => ?_)
        · exact z_sub [0, 1, 2, 3, 4, 5] rfl (w_L_law_2702 x hl hret hnm htab h28 a0 a1 a2 a3 a4 a5)
        · refine z_iconst (pc := 2224) x (v := (0 : Int32)) dL_law_2224 rfl ?_
          exact z_zret (pc := 2225) x hret dL_law_2225
      refine z_ite (fun e44_33 => ?_) (fun e44_33 => ?_)
      · refine z_tabIn (pc := 44) (tgt := 2226) x (2182) dL_law_44 e44_33 (by decide) (by decide) rfl rfl ?_
        refine z_aload_n (pc := 2226) x 1 dL_law_2226 rfl rfl ?_
        refine z_aload_n (pc := 2227) x 0 dL_law_2227 rfl rfl ?_
        refine z_iload (pc := 2228) x 5 dL_law_2228 rfl ?_
        refine z_iconst (pc := 2230) x (v := (1 : Int32)) dL_law_2230 rfl ?_
        refine z_iadd (pc := 2231) x dL_law_2231 ?_
        refine z_iald (pc := 2232) x (t := 0) rfl dL_law_2232 fun v2232 => ?_
        refine z_i2c (pc := 2233) x dL_law_2233 ?_
        refine z_aload_n (pc := 2234) x 3 dL_law_2234 rfl rfl ?_
        refine z_call (pc := 2235) (z_canSX (pc := 2235) (As := [zP a1, zI (((v2232).toUInt32 % 65536).toInt32), zP a3]) (st := []) x (m_X0_append hl a1 (((v2232).toUInt32 % 65536).toInt32) a3) q2140 q2141 q107 q2142 n_X0_append ⟨by decide, by decide⟩ (Nat.le_of_ble_eq_true rfl) dL_law_2235) (zv_I fun v2235 => ?_) (fun q => zx_fail)
        refine z_istore (pc := 2238) (lv' := [(6, zI v2235), (0, zP a0), (1, zP a1), (2, zP a2), (3, zP a3), (4, zP a4), (5, zI a5)]) x dL_law_2238 (Nat.le_of_ble_eq_true rfl) rfl ?_
        refine z_aload_n (pc := 2240) x 3 dL_law_2240 rfl rfl ?_
        refine z_aload_n (pc := 2241) x 1 dL_law_2241 rfl rfl ?_
        refine z_iload (pc := 2242) x 6 dL_law_2242 rfl ?_
        refine z_iconst (pc := 2244) x (v := (1 : Int32)) dL_law_2244 rfl ?_
        refine z_iadd (pc := 2245) x dL_law_2245 ?_
        refine z_iald (pc := 2246) x (t := 0) rfl dL_law_2246 fun v2246 => ?_
        refine z_i2c (pc := 2247) x dL_law_2247 ?_
        refine z_call (pc := 2248) (z_canV (pc := 2248) (As := [zI (((v2246).toUInt32 % 65536).toInt32)]) (st := []) x (ci := 34) rfl (fun b => m_X6_append hl (some b) (((v2246).toUInt32 % 65536).toInt32)) q3191 q3192 (x.2.2.2.2.1 _ q3193) q121 q3194 n_X6_append ⟨by decide, by decide⟩ (Nat.le_of_ble_eq_true rfl) dL_law_2248) (zv_I fun v2248 => ?_) (fun q => zx_fail)
        refine z_istore (pc := 2251) (lv' := [(7, zI v2248), (6, zI v2235), (0, zP a0), (1, zP a1), (2, zP a2), (3, zP a3), (4, zP a4), (5, zI a5)]) x dL_law_2251 (Nat.le_of_ble_eq_true rfl) rfl ?_
        refine z_aload_n (pc := 2253) x 4 dL_law_2253 rfl rfl ?_
        refine z_call (pc := 2254) (z_canV (pc := 2254) (As := []) (st := []) x (ci := 34) rfl (fun b => m_X6_thrown hl (some b)) q2870 q2871 (x.2.2.2.2.1 _ q2872) q121 q2873 n_X6_thrown ⟨by decide, by decide⟩ (Nat.le_of_ble_eq_true rfl) dL_law_2254) (zv_I fun v2254 => ?_) (fun q => zx_fail)
        refine z_iload (pc := 2257) x 1 dL_law_2257 rfl ?_
        refine z_icmp_eq (pc := 2259) (tgt := 2264) x dL_law_2259 rfl (fun _ => ?_) (fun _ => ?_)
        · refine z_iload (pc := 2264) x 1 dL_law_2264 rfl ?_
          refine z_if_ne (pc := 2266) (tgt := 2281) x dL_law_2266 rfl (fun _ => ?_) (fun _ => ?_)
          · refine z_aload_n (pc := 2269) x 5 dL_law_2269 rfl rfl ?_
            refine z_iconst (pc := 2270) x (v := (0 : Int32)) dL_law_2270 rfl ?_
            refine z_lald (pc := 2271) x (t := 3) rfl dL_law_2271 fun v2271 => ?_
            refine z_iload (pc := 2272) x 0 dL_law_2272 rfl ?_
            refine z_i2l (pc := 2274) x dL_law_2274 ?_
            refine z_lcmp (pc := 2275) x dL_law_2275 ?_
            refine z_if_eq (pc := 2276) (tgt := 2281) x dL_law_2276 rfl (fun _ => ?_) (fun _ => ?_)
            · exact z_sub [2, 3, 4, 5, 6, 7] rfl (w_L_law_2281 x hl hret hnm htab h28 a0 a1 a2 a3 a4 a5)
            · refine z_iconst (pc := 2279) x (v := (0 : Int32)) dL_law_2279 rfl ?_
              exact z_zret (pc := 2280) x hret dL_law_2280
          · exact z_sub [2, 3, 4, 5, 6, 7] rfl (w_L_law_2281 x hl hret hnm htab h28 a0 a1 a2 a3 a4 a5)
        · refine z_iconst (pc := 2262) x (v := (0 : Int32)) dL_law_2262 rfl ?_
          exact z_zret (pc := 2263) x hret dL_law_2263
      refine z_ite (fun e44_34 => ?_) (fun e44_34 => ?_)
      · refine z_tabIn (pc := 44) (tgt := 2284) x (2240) dL_law_44 e44_34 (by decide) (by decide) rfl rfl ?_
        refine z_aload_n (pc := 2284) x 1 dL_law_2284 rfl rfl ?_
        refine z_aload_n (pc := 2285) x 3 dL_law_2285 rfl rfl ?_
        refine z_call (pc := 2286) (z_canSX (pc := 2286) (As := [zP a1, zP a3]) (st := []) x (m_X0_run hl a1 a3) q2149 q2150 q107 q2151 n_X0_run ⟨by decide, by decide⟩ (Nat.le_of_ble_eq_true rfl) dL_law_2286) (zv_I fun v2286 => ?_) (fun q => zx_fail)
        refine z_istore (pc := 2289) (lv' := [(6, zI v2286), (0, zP a0), (1, zP a1), (2, zP a2), (3, zP a3), (4, zP a4), (5, zI a5)]) x dL_law_2289 (Nat.le_of_ble_eq_true rfl) rfl ?_
        refine z_aload_n (pc := 2291) x 3 dL_law_2291 rfl rfl ?_
        refine z_call (pc := 2292) (z_canV (pc := 2292) (As := []) (st := []) x (ci := 34) rfl (fun b => m_X6_run hl (some b)) q3195 q3196 (x.2.2.2.2.1 _ q3197) q121 q3198 n_X6_run ⟨by decide, by decide⟩ (Nat.le_of_ble_eq_true rfl) dL_law_2292) (zv_I fun v2292 => ?_) (fun q => zx_fail)
        refine z_istore (pc := 2295) (lv' := [(7, zI v2292), (6, zI v2286), (0, zP a0), (1, zP a1), (2, zP a2), (3, zP a3), (4, zP a4), (5, zI a5)]) x dL_law_2295 (Nat.le_of_ble_eq_true rfl) rfl ?_
        refine z_aload_n (pc := 2297) x 4 dL_law_2297 rfl rfl ?_
        refine z_call (pc := 2298) (z_canV (pc := 2298) (As := []) (st := []) x (ci := 34) rfl (fun b => m_X6_thrown hl (some b)) q2870 q2871 (x.2.2.2.2.1 _ q2872) q121 q2873 n_X6_thrown ⟨by decide, by decide⟩ (Nat.le_of_ble_eq_true rfl) dL_law_2298) (zv_I fun v2298 => ?_) (fun q => zx_fail)
        refine z_iload (pc := 2301) x 1 dL_law_2301 rfl ?_
        refine z_icmp_eq (pc := 2303) (tgt := 2308) x dL_law_2303 rfl (fun _ => ?_) (fun _ => ?_)
        · refine z_iload (pc := 2308) x 1 dL_law_2308 rfl ?_
          refine z_if_ne (pc := 2310) (tgt := 2325) x dL_law_2310 rfl (fun _ => ?_) (fun _ => ?_)
          · refine z_aload_n (pc := 2313) x 5 dL_law_2313 rfl rfl ?_
            refine z_iconst (pc := 2314) x (v := (0 : Int32)) dL_law_2314 rfl ?_
            refine z_lald (pc := 2315) x (t := 3) rfl dL_law_2315 fun v2315 => ?_
            refine z_iload (pc := 2316) x 0 dL_law_2316 rfl ?_
            refine z_i2l (pc := 2318) x dL_law_2318 ?_
            refine z_lcmp (pc := 2319) x dL_law_2319 ?_
            refine z_if_eq (pc := 2320) (tgt := 2325) x dL_law_2320 rfl (fun _ => ?_) (fun _ => ?_)
            · exact z_sub [2, 3, 4, 5, 6, 7] rfl (w_L_law_2325 x hl hret hnm htab h28 a0 a1 a2 a3 a4 a5)
            · refine z_iconst (pc := 2323) x (v := (0 : Int32)) dL_law_2323 rfl ?_
              exact z_zret (pc := 2324) x hret dL_law_2324
          · exact z_sub [2, 3, 4, 5, 6, 7] rfl (w_L_law_2325 x hl hret hnm htab h28 a0 a1 a2 a3 a4 a5)
        · refine z_iconst (pc := 2306) x (v := (0 : Int32)) dL_law_2306 rfl ?_
          exact z_zret (pc := 2307) x hret dL_law_2307
      refine z_ite (fun e44_35 => ?_) (fun e44_35 => ?_)
      · refine z_tabIn (pc := 44) (tgt := 2328) x (2284) dL_law_44 e44_35 (by decide) (by decide) rfl rfl ?_
        refine z_aload_n (pc := 2328) x 1 dL_law_2328 rfl rfl ?_
        refine z_aload_n (pc := 2329) x 3 dL_law_2329 rfl rfl ?_
        refine z_call (pc := 2330) (z_canSX (pc := 2330) (As := [zP a1, zP a3]) (st := []) x (m_X0_errorPosition hl a1 a3) q2676 q2677 q107 q2678 n_X0_errorPosition ⟨by decide, by decide⟩ (Nat.le_of_ble_eq_true rfl) dL_law_2330) (zv_I fun v2330 => ?_) (fun q => zx_fail)
        refine z_istore (pc := 2333) (lv' := [(6, zI v2330), (0, zP a0), (1, zP a1), (2, zP a2), (3, zP a3), (4, zP a4), (5, zI a5)]) x dL_law_2333 (Nat.le_of_ble_eq_true rfl) rfl ?_
        refine z_aload_n (pc := 2335) x 3 dL_law_2335 rfl rfl ?_
        refine z_call (pc := 2336) (z_canV (pc := 2336) (As := []) (st := []) x (ci := 34) rfl (fun b => m_X6_errorPosition hl (some b)) q3285 q3286 (x.2.2.2.2.1 _ q3287) q121 q3288 n_X6_errorPosition ⟨by decide, by decide⟩ (Nat.le_of_ble_eq_true rfl) dL_law_2336) (zv_I fun v2336 => ?_) (fun q => zx_fail)
        refine z_istore (pc := 2339) (lv' := [(7, zI v2336), (6, zI v2330), (0, zP a0), (1, zP a1), (2, zP a2), (3, zP a3), (4, zP a4), (5, zI a5)]) x dL_law_2339 (Nat.le_of_ble_eq_true rfl) rfl ?_
        refine z_aload_n (pc := 2341) x 4 dL_law_2341 rfl rfl ?_
        refine z_call (pc := 2342) (z_canV (pc := 2342) (As := []) (st := []) x (ci := 34) rfl (fun b => m_X6_thrown hl (some b)) q2870 q2871 (x.2.2.2.2.1 _ q2872) q121 q2873 n_X6_thrown ⟨by decide, by decide⟩ (Nat.le_of_ble_eq_true rfl) dL_law_2342) (zv_I fun v2342 => ?_) (fun q => zx_fail)
        refine z_iload (pc := 2345) x 1 dL_law_2345 rfl ?_
        refine z_icmp_eq (pc := 2347) (tgt := 2352) x dL_law_2347 rfl (fun _ => ?_) (fun _ => ?_)
        · refine z_iload (pc := 2352) x 1 dL_law_2352 rfl ?_
          refine z_if_ne (pc := 2354) (tgt := 2369) x dL_law_2354 rfl (fun _ => ?_) (fun _ => ?_)
          · refine z_aload_n (pc := 2357) x 5 dL_law_2357 rfl rfl ?_
            refine z_iconst (pc := 2358) x (v := (0 : Int32)) dL_law_2358 rfl ?_
            refine z_lald (pc := 2359) x (t := 3) rfl dL_law_2359 fun v2359 => ?_
            refine z_iload (pc := 2360) x 0 dL_law_2360 rfl ?_
            refine z_i2l (pc := 2362) x dL_law_2362 ?_
            refine z_lcmp (pc := 2363) x dL_law_2363 ?_
            refine z_if_eq (pc := 2364) (tgt := 2369) x dL_law_2364 rfl (fun _ => ?_) (fun _ => ?_)
            · exact z_sub [2, 3, 4, 5, 6, 7] rfl (w_L_law_2369 x hl hret hnm htab h28 a0 a1 a2 a3 a4 a5)
            · refine z_iconst (pc := 2367) x (v := (0 : Int32)) dL_law_2367 rfl ?_
              exact z_zret (pc := 2368) x hret dL_law_2368
          · exact z_sub [2, 3, 4, 5, 6, 7] rfl (w_L_law_2369 x hl hret hnm htab h28 a0 a1 a2 a3 a4 a5)
        · refine z_iconst (pc := 2350) x (v := (0 : Int32)) dL_law_2350 rfl ?_
          exact z_zret (pc := 2351) x hret dL_law_2351
      refine z_ite (fun e44_36 => ?_) (fun e44_36 => ?_)
      · refine z_tabIn (pc := 44) (tgt := 2372) x (2328) dL_law_44 e44_36 (by decide) (by decide) rfl rfl ?_
        refine z_aload_n (pc := 2372) x 1 dL_law_2372 rfl rfl ?_
        refine z_aload_n (pc := 2373) x 3 dL_law_2373 rfl rfl ?_
        refine z_call (pc := 2374) (z_canSX (pc := 2374) (As := [zP a1, zP a3]) (st := []) x (m_X0_failedCommand hl a1 a3) q2683 q2684 q107 q2685 n_X0_failedCommand ⟨by decide, by decide⟩ (Nat.le_of_ble_eq_true rfl) dL_law_2374) (zv_I fun v2374 => ?_) (fun q => zx_fail)
        refine z_istore (pc := 2377) (lv' := [(6, zI v2374), (0, zP a0), (1, zP a1), (2, zP a2), (3, zP a3), (4, zP a4), (5, zI a5)]) x dL_law_2377 (Nat.le_of_ble_eq_true rfl) rfl ?_
        refine z_aload_n (pc := 2379) x 3 dL_law_2379 rfl rfl ?_
        refine z_call (pc := 2380) (z_canV (pc := 2380) (As := []) (st := []) x (ci := 34) rfl (fun b => m_X6_failedCommand hl (some b)) q3289 q3290 (x.2.2.2.2.1 _ q3291) q121 q3292 n_X6_failedCommand ⟨by decide, by decide⟩ (Nat.le_of_ble_eq_true rfl) dL_law_2380) (zv_I fun v2380 => ?_) (fun q => zx_fail)
        refine z_istore (pc := 2383) (lv' := [(7, zI v2380), (6, zI v2374), (0, zP a0), (1, zP a1), (2, zP a2), (3, zP a3), (4, zP a4), (5, zI a5)]) x dL_law_2383 (Nat.le_of_ble_eq_true rfl) rfl ?_
        refine z_aload_n (pc := 2385) x 4 dL_law_2385 rfl rfl ?_
        refine z_call (pc := 2386) (z_canV (pc := 2386) (As := []) (st := []) x (ci := 34) rfl (fun b => m_X6_thrown hl (some b)) q2870 q2871 (x.2.2.2.2.1 _ q2872) q121 q2873 n_X6_thrown ⟨by decide, by decide⟩ (Nat.le_of_ble_eq_true rfl) dL_law_2386) (zv_I fun v2386 => ?_) (fun q => zx_fail)
        refine z_iload (pc := 2389) x 1 dL_law_2389 rfl ?_
        refine z_icmp_eq (pc := 2391) (tgt := 2396) x dL_law_2391 rfl (fun _ => ?_) (fun _ => ?_)
        · refine z_iload (pc := 2396) x 1 dL_law_2396 rfl ?_
          refine z_if_ne (pc := 2398) (tgt := 2413) x dL_law_2398 rfl (fun _ => ?_) (fun _ => ?_)
          · refine z_aload_n (pc := 2401) x 5 dL_law_2401 rfl rfl ?_
            refine z_iconst (pc := 2402) x (v := (0 : Int32)) dL_law_2402 rfl ?_
            refine z_lald (pc := 2403) x (t := 3) rfl dL_law_2403 fun v2403 => ?_
            refine z_iload (pc := 2404) x 0 dL_law_2404 rfl ?_
            refine z_i2l (pc := 2406) x dL_law_2406 ?_
            refine z_lcmp (pc := 2407) x dL_law_2407 ?_
            refine z_if_eq (pc := 2408) (tgt := 2413) x dL_law_2408 rfl (fun _ => ?_) (fun _ => ?_)
            · exact z_sub [2, 3, 4, 5, 6, 7] rfl (w_L_law_2413 x hl hret hnm htab h28 a0 a1 a2 a3 a4 a5)
            · refine z_iconst (pc := 2411) x (v := (0 : Int32)) dL_law_2411 rfl ?_
              exact z_zret (pc := 2412) x hret dL_law_2412
          · exact z_sub [2, 3, 4, 5, 6, 7] rfl (w_L_law_2413 x hl hret hnm htab h28 a0 a1 a2 a3 a4 a5)
        · refine z_iconst (pc := 2394) x (v := (0 : Int32)) dL_law_2394 rfl ?_
          exact z_zret (pc := 2395) x hret dL_law_2395
      refine z_ite (fun e44_37 => ?_) (fun e44_37 => ?_)
      · refine z_tabIn (pc := 44) (tgt := 2416) x (2372) dL_law_44 e44_37 (by decide) (by decide) rfl rfl ?_
        refine z_aload_n (pc := 2416) x 1 dL_law_2416 rfl rfl ?_
        refine z_aload_n (pc := 2417) x 0 dL_law_2417 rfl rfl ?_
        refine z_iload (pc := 2418) x 5 dL_law_2418 rfl ?_
        refine z_iconst (pc := 2420) x (v := (1 : Int32)) dL_law_2420 rfl ?_
        refine z_iadd (pc := 2421) x dL_law_2421 ?_
        refine z_iald (pc := 2422) x (t := 0) rfl dL_law_2422 fun v2422 => ?_
        refine z_aload_n (pc := 2423) x 3 dL_law_2423 rfl rfl ?_
        refine z_call (pc := 2424) (z_canSX (pc := 2424) (As := [zP a1, zI v2422, zP a3]) (st := []) x (m_X0_writeRule hl a1 v2422 a3) q2690 q2691 q107 q2692 n_X0_writeRule ⟨by decide, by decide⟩ (Nat.le_of_ble_eq_true rfl) dL_law_2424) (zv_I fun v2424 => ?_) (fun q => zx_fail)
        refine z_istore (pc := 2427) (lv' := [(6, zI v2424), (0, zP a0), (1, zP a1), (2, zP a2), (3, zP a3), (4, zP a4), (5, zI a5)]) x dL_law_2427 (Nat.le_of_ble_eq_true rfl) rfl ?_
        refine z_aload_n (pc := 2429) x 3 dL_law_2429 rfl rfl ?_
        refine z_aload_n (pc := 2430) x 1 dL_law_2430 rfl rfl ?_
        refine z_iload (pc := 2431) x 6 dL_law_2431 rfl ?_
        refine z_iconst (pc := 2433) x (v := (1 : Int32)) dL_law_2433 rfl ?_
        refine z_iadd (pc := 2434) x dL_law_2434 ?_
        refine z_iald (pc := 2435) x (t := 0) rfl dL_law_2435 fun v2435 => ?_
        refine z_call (pc := 2436) (z_canV (pc := 2436) (As := [zI v2435]) (st := []) x (ci := 34) rfl (fun b => m_X6_writeRule hl (some b) v2435) q3293 q3294 (x.2.2.2.2.1 _ q3295) q121 q3296 n_X6_writeRule ⟨by decide, by decide⟩ (Nat.le_of_ble_eq_true rfl) dL_law_2436) (zv_I fun v2436 => ?_) (fun q => zx_fail)
        refine z_istore (pc := 2439) (lv' := [(7, zI v2436), (6, zI v2424), (0, zP a0), (1, zP a1), (2, zP a2), (3, zP a3), (4, zP a4), (5, zI a5)]) x dL_law_2439 (Nat.le_of_ble_eq_true rfl) rfl ?_
        refine z_aload_n (pc := 2441) x 4 dL_law_2441 rfl rfl ?_
        refine z_call (pc := 2442) (z_canV (pc := 2442) (As := []) (st := []) x (ci := 34) rfl (fun b => m_X6_thrown hl (some b)) q2870 q2871 (x.2.2.2.2.1 _ q2872) q121 q2873 n_X6_thrown ⟨by decide, by decide⟩ (Nat.le_of_ble_eq_true rfl) dL_law_2442) (zv_I fun v2442 => ?_) (fun q => zx_fail)
        refine z_iload (pc := 2445) x 1 dL_law_2445 rfl ?_
        refine z_icmp_eq (pc := 2447) (tgt := 2452) x dL_law_2447 rfl (fun _ => ?_) (fun _ => ?_)
        · refine z_iload (pc := 2452) x 1 dL_law_2452 rfl ?_
          refine z_if_ne (pc := 2454) (tgt := 2469) x dL_law_2454 rfl (fun _ => ?_) (fun _ => ?_)
          · refine z_aload_n (pc := 2457) x 5 dL_law_2457 rfl rfl ?_
            refine z_iconst (pc := 2458) x (v := (0 : Int32)) dL_law_2458 rfl ?_
            refine z_lald (pc := 2459) x (t := 3) rfl dL_law_2459 fun v2459 => ?_
            refine z_iload (pc := 2460) x 0 dL_law_2460 rfl ?_
            refine z_i2l (pc := 2462) x dL_law_2462 ?_
            refine z_lcmp (pc := 2463) x dL_law_2463 ?_
            refine z_if_eq (pc := 2464) (tgt := 2469) x dL_law_2464 rfl (fun _ => ?_) (fun _ => ?_)
            · exact z_sub [2, 3, 4, 5, 6, 7] rfl (w_L_law_2469 x hl hret hnm htab h28 a0 a1 a2 a3 a4 a5)
            · refine z_iconst (pc := 2467) x (v := (0 : Int32)) dL_law_2467 rfl ?_
              exact z_zret (pc := 2468) x hret dL_law_2468
          · exact z_sub [2, 3, 4, 5, 6, 7] rfl (w_L_law_2469 x hl hret hnm htab h28 a0 a1 a2 a3 a4 a5)
        · refine z_iconst (pc := 2450) x (v := (0 : Int32)) dL_law_2450 rfl ?_
          exact z_zret (pc := 2451) x hret dL_law_2451
      refine z_ite (fun e44_38 => ?_) (fun e44_38 => ?_)
      · refine z_tabIn (pc := 44) (tgt := 2472) x (2428) dL_law_44 e44_38 (by decide) (by decide) rfl rfl ?_
        refine z_aload_n (pc := 2472) x 1 dL_law_2472 rfl rfl ?_
        refine z_aload_n (pc := 2473) x 0 dL_law_2473 rfl rfl ?_
        refine z_iload (pc := 2474) x 5 dL_law_2474 rfl ?_
        refine z_iconst (pc := 2476) x (v := (1 : Int32)) dL_law_2476 rfl ?_
        refine z_iadd (pc := 2477) x dL_law_2477 ?_
        refine z_iald (pc := 2478) x (t := 0) rfl dL_law_2478 fun v2478 => ?_
        refine z_i2c (pc := 2479) x dL_law_2479 ?_
        refine z_aload_n (pc := 2480) x 0 dL_law_2480 rfl rfl ?_
        refine z_iload (pc := 2481) x 5 dL_law_2481 rfl ?_
        refine z_iconst (pc := 2483) x (v := (2 : Int32)) dL_law_2483 rfl ?_
        refine z_iadd (pc := 2484) x dL_law_2484 ?_
        refine z_iald (pc := 2485) x (t := 0) rfl dL_law_2485 fun v2485 => ?_
        refine z_aload_n (pc := 2486) x 0 dL_law_2486 rfl rfl ?_
        refine z_iload (pc := 2487) x 5 dL_law_2487 rfl ?_
        refine z_iconst (pc := 2489) x (v := (3 : Int32)) dL_law_2489 rfl ?_
        refine z_iadd (pc := 2490) x dL_law_2490 ?_
        refine z_iald (pc := 2491) x (t := 0) rfl dL_law_2491 fun v2491 => ?_
        refine z_aload_n (pc := 2492) x 3 dL_law_2492 rfl rfl ?_
        refine z_call (pc := 2493) (z_canSX (pc := 2493) (As := [zP a1, zI (((v2478).toUInt32 % 65536).toInt32), zI v2485, zI v2491, zP a3]) (st := []) x (m_X0_writeStep hl a1 (((v2478).toUInt32 % 65536).toInt32) v2485 v2491 a3) q2697 q2698 q107 q2699 n_X0_writeStep ⟨by decide, by decide⟩ (Nat.le_of_ble_eq_true rfl) dL_law_2493) (zv_I fun v2493 => ?_) (fun q => zx_fail)
        refine z_istore (pc := 2496) (lv' := [(6, zI v2493), (0, zP a0), (1, zP a1), (2, zP a2), (3, zP a3), (4, zP a4), (5, zI a5)]) x dL_law_2496 (Nat.le_of_ble_eq_true rfl) rfl ?_
        refine z_aload_n (pc := 2498) x 3 dL_law_2498 rfl rfl ?_
        refine z_aload_n (pc := 2499) x 1 dL_law_2499 rfl rfl ?_
        refine z_iload (pc := 2500) x 6 dL_law_2500 rfl ?_
        refine z_iconst (pc := 2502) x (v := (1 : Int32)) dL_law_2502 rfl ?_
        refine z_iadd (pc := 2503) x dL_law_2503 ?_
        refine z_iald (pc := 2504) x (t := 0) rfl dL_law_2504 fun v2504 => ?_
        refine z_i2c (pc := 2505) x dL_law_2505 ?_
        refine z_aload_n (pc := 2506) x 1 dL_law_2506 rfl rfl ?_
        refine z_iload (pc := 2507) x 6 dL_law_2507 rfl ?_
        refine z_iconst (pc := 2509) x (v := (2 : Int32)) dL_law_2509 rfl ?_
        refine z_iadd (pc := 2510) x dL_law_2510 ?_
        refine z_iald (pc := 2511) x (t := 0) rfl dL_law_2511 fun v2511 => ?_
        refine z_aload_n (pc := 2512) x 1 dL_law_2512 rfl rfl ?_
        refine z_iload (pc := 2513) x 6 dL_law_2513 rfl ?_
        refine z_iconst (pc := 2515) x (v := (3 : Int32)) dL_law_2515 rfl ?_
        refine z_iadd (pc := 2516) x dL_law_2516 ?_
        refine z_iald (pc := 2517) x (t := 0) rfl dL_law_2517 fun v2517 => ?_
        refine z_call (pc := 2518) (z_canV (pc := 2518) (As := [zI (((v2504).toUInt32 % 65536).toInt32), zI v2511, zI v2517]) (st := []) x (ci := 34) rfl (fun b => m_X6_writeStep hl (some b) (((v2504).toUInt32 % 65536).toInt32) v2511 v2517) q3301 q3302 (x.2.2.2.2.1 _ q3303) q121 q3304 n_X6_writeStep ⟨by decide, by decide⟩ (Nat.le_of_ble_eq_true rfl) dL_law_2518) (zv_I fun v2518 => ?_) (fun q => zx_fail)
        refine z_istore (pc := 2521) (lv' := [(7, zI v2518), (6, zI v2493), (0, zP a0), (1, zP a1), (2, zP a2), (3, zP a3), (4, zP a4), (5, zI a5)]) x dL_law_2521 (Nat.le_of_ble_eq_true rfl) rfl ?_
        refine z_aload_n (pc := 2523) x 4 dL_law_2523 rfl rfl ?_
        refine z_call (pc := 2524) (z_canV (pc := 2524) (As := []) (st := []) x (ci := 34) rfl (fun b => m_X6_thrown hl (some b)) q2870 q2871 (x.2.2.2.2.1 _ q2872) q121 q2873 n_X6_thrown ⟨by decide, by decide⟩ (Nat.le_of_ble_eq_true rfl) dL_law_2524) (zv_I fun v2524 => ?_) (fun q => zx_fail)
        refine z_iload (pc := 2527) x 1 dL_law_2527 rfl ?_
        refine z_icmp_eq (pc := 2529) (tgt := 2534) x dL_law_2529 rfl (fun _ => ?_) (fun _ => ?_)
        · refine z_iload (pc := 2534) x 1 dL_law_2534 rfl ?_
          refine z_if_ne (pc := 2536) (tgt := 2551) x dL_law_2536 rfl (fun _ => ?_) (fun _ => ?_)
          · refine z_aload_n (pc := 2539) x 5 dL_law_2539 rfl rfl ?_
            refine z_iconst (pc := 2540) x (v := (0 : Int32)) dL_law_2540 rfl ?_
            refine z_lald (pc := 2541) x (t := 3) rfl dL_law_2541 fun v2541 => ?_
            refine z_iload (pc := 2542) x 0 dL_law_2542 rfl ?_
            refine z_i2l (pc := 2544) x dL_law_2544 ?_
            refine z_lcmp (pc := 2545) x dL_law_2545 ?_
            refine z_if_eq (pc := 2546) (tgt := 2551) x dL_law_2546 rfl (fun _ => ?_) (fun _ => ?_)
            · exact z_sub [2, 3, 4, 5, 6, 7] rfl (w_L_law_2551 x hl hret hnm htab h28 a0 a1 a2 a3 a4 a5)
            · refine z_iconst (pc := 2549) x (v := (0 : Int32)) dL_law_2549 rfl ?_
              exact z_zret (pc := 2550) x hret dL_law_2550
          · exact z_sub [2, 3, 4, 5, 6, 7] rfl (w_L_law_2551 x hl hret hnm htab h28 a0 a1 a2 a3 a4 a5)
        · refine z_iconst (pc := 2532) x (v := (0 : Int32)) dL_law_2532 rfl ?_
          exact z_zret (pc := 2533) x hret dL_law_2533
      refine z_ite (fun e44_39 => ?_) (fun e44_39 => ?_)
      · refine z_tabIn (pc := 44) (tgt := 2554) x (2510) dL_law_44 e44_39 (by decide) (by decide) rfl rfl ?_
        refine z_aload_n (pc := 2554) x 1 dL_law_2554 rfl rfl ?_
        refine z_call (pc := 2555) (z_canV (pc := 2555) (As := []) (st := []) x (ci := 16) rfl (fun b => m_X1_writeGiven hl (some b)) q1202 q1203 (x.2.2.2.2.1 _ q1204) q108 q1205 n_X1_writeGiven ⟨by decide, by decide⟩ (Nat.le_of_ble_eq_true rfl) dL_law_2555) (zv_I fun v2555 => ?_) (fun q => zx_fail)
        refine z_aload_n (pc := 2558) x 2 dL_law_2558 rfl rfl ?_
        refine z_call (pc := 2559) (z_canV (pc := 2559) (As := []) (st := [zI v2555]) x (ci := 34) rfl (fun b => m_X6_writeGiven hl (some b)) q3321 q3322 (x.2.2.2.2.1 _ q3323) q121 q3324 n_X6_writeGiven ⟨by decide, by decide⟩ (Nat.le_of_ble_eq_true rfl) dL_law_2559) (zv_I fun v2559 => ?_) (fun q => zx_fail)
        refine z_icmp_eq (pc := 2562) (tgt := 2702) x dL_law_2562 rfl (fun _ => ?_) (fun _ => ?_)
        · exact z_sub [0, 1, 2, 3, 4, 5] rfl (w_L_law_2702 x hl hret hnm htab h28 a0 a1 a2 a3 a4 a5)
        · refine z_iconst (pc := 2565) x (v := (0 : Int32)) dL_law_2565 rfl ?_
          exact z_zret (pc := 2566) x hret dL_law_2566
      refine z_ite (fun e44_40 => ?_) (fun e44_40 => ?_)
      · refine z_tabIn (pc := 44) (tgt := 2567) x (2523) dL_law_44 e44_40 (by decide) (by decide) rfl rfl ?_
        refine z_aload_n (pc := 2567) x 1 dL_law_2567 rfl rfl ?_
        refine z_aload_n (pc := 2568) x 0 dL_law_2568 rfl rfl ?_
        refine z_iload (pc := 2569) x 5 dL_law_2569 rfl ?_
        refine z_iconst (pc := 2571) x (v := (1 : Int32)) dL_law_2571 rfl ?_
        refine z_iadd (pc := 2572) x dL_law_2572 ?_
        refine z_iald (pc := 2573) x (t := 0) rfl dL_law_2573 fun v2573 => ?_
        refine z_aload_n (pc := 2574) x 3 dL_law_2574 rfl rfl ?_
        refine z_call (pc := 2575) (z_canSX (pc := 2575) (As := [zP a1, zI v2573, zP a3]) (st := []) x (m_X0_outputAt hl a1 v2573 a3) q2729 q2730 q107 q2731 n_X0_outputAt ⟨by decide, by decide⟩ (Nat.le_of_ble_eq_true rfl) dL_law_2575) (zv_I fun v2575 => ?_) (fun q => zx_fail)
        refine z_istore (pc := 2578) (lv' := [(6, zI v2575), (0, zP a0), (1, zP a1), (2, zP a2), (3, zP a3), (4, zP a4), (5, zI a5)]) x dL_law_2578 (Nat.le_of_ble_eq_true rfl) rfl ?_
        refine z_aload_n (pc := 2580) x 3 dL_law_2580 rfl rfl ?_
        refine z_aload_n (pc := 2581) x 1 dL_law_2581 rfl rfl ?_
        refine z_iload (pc := 2582) x 6 dL_law_2582 rfl ?_
        refine z_iconst (pc := 2584) x (v := (1 : Int32)) dL_law_2584 rfl ?_
        refine z_iadd (pc := 2585) x dL_law_2585 ?_
        refine z_iald (pc := 2586) x (t := 0) rfl dL_law_2586 fun v2586 => ?_
        refine z_call (pc := 2587) (z_canV (pc := 2587) (As := [zI v2586]) (st := []) x (ci := 34) rfl (fun b => m_X6_outputAt hl (some b) v2586) q3325 q3326 (x.2.2.2.2.1 _ q3327) q121 q3328 n_X6_outputAt ⟨by decide, by decide⟩ (Nat.le_of_ble_eq_true rfl) dL_law_2587) (zv_I fun v2587 => ?_) (fun q => zx_fail)
        refine z_istore (pc := 2590) (lv' := [(7, zI v2587), (6, zI v2575), (0, zP a0), (1, zP a1), (2, zP a2), (3, zP a3), (4, zP a4), (5, zI a5)]) x dL_law_2590 (Nat.le_of_ble_eq_true rfl) rfl ?_
        refine z_aload_n (pc := 2592) x 4 dL_law_2592 rfl rfl ?_
        refine z_call (pc := 2593) (z_canV (pc := 2593) (As := []) (st := []) x (ci := 34) rfl (fun b => m_X6_thrown hl (some b)) q2870 q2871 (x.2.2.2.2.1 _ q2872) q121 q2873 n_X6_thrown ⟨by decide, by decide⟩ (Nat.le_of_ble_eq_true rfl) dL_law_2593) (zv_I fun v2593 => ?_) (fun q => zx_fail)
        refine z_iload (pc := 2596) x 1 dL_law_2596 rfl ?_
        refine z_icmp_eq (pc := 2598) (tgt := 2603) x dL_law_2598 rfl (fun _ => ?_) (fun _ => ?_)
        · refine z_iload (pc := 2603) x 1 dL_law_2603 rfl ?_
          refine z_if_ne (pc := 2605) (tgt := 2620) x dL_law_2605 rfl (fun _ => ?_) (fun _ => ?_)
          · refine z_aload_n (pc := 2608) x 5 dL_law_2608 rfl rfl ?_
            refine z_iconst (pc := 2609) x (v := (0 : Int32)) dL_law_2609 rfl ?_
            refine z_lald (pc := 2610) x (t := 3) rfl dL_law_2610 fun v2610 => ?_
            refine z_iload (pc := 2611) x 0 dL_law_2611 rfl ?_
            refine z_i2l (pc := 2613) x dL_law_2613 ?_
            refine z_lcmp (pc := 2614) x dL_law_2614 ?_
            refine z_if_eq (pc := 2615) (tgt := 2620) x dL_law_2615 rfl (fun _ => ?_) (fun _ => ?_)
            · exact z_sub [2, 3, 4, 5, 6, 7] rfl (w_L_law_2620 x hl hret hnm htab h28 a0 a1 a2 a3 a4 a5)
            · refine z_iconst (pc := 2618) x (v := (0 : Int32)) dL_law_2618 rfl ?_
              exact z_zret (pc := 2619) x hret dL_law_2619
          · exact z_sub [2, 3, 4, 5, 6, 7] rfl (w_L_law_2620 x hl hret hnm htab h28 a0 a1 a2 a3 a4 a5)
        · refine z_iconst (pc := 2601) x (v := (0 : Int32)) dL_law_2601 rfl ?_
          exact z_zret (pc := 2602) x hret dL_law_2602
      refine z_ite (fun e44_41 => ?_) (fun e44_41 => ?_)
      · refine z_tabIn (pc := 44) (tgt := 2623) x (2579) dL_law_44 e44_41 (by decide) (by decide) rfl rfl ?_
        refine z_aload_n (pc := 2623) x 1 dL_law_2623 rfl rfl ?_
        refine z_aload_n (pc := 2624) x 3 dL_law_2624 rfl rfl ?_
        refine z_call (pc := 2625) (z_canSX (pc := 2625) (As := [zP a1, zP a3]) (st := []) x (m_X0_undo hl a1 a3) q2737 q2738 q107 q2739 n_X0_undo ⟨by decide, by decide⟩ (Nat.le_of_ble_eq_true rfl) dL_law_2625) (zv_I fun v2625 => ?_) (fun q => zx_fail)
        refine z_istore (pc := 2628) (lv' := [(6, zI v2625), (0, zP a0), (1, zP a1), (2, zP a2), (3, zP a3), (4, zP a4), (5, zI a5)]) x dL_law_2628 (Nat.le_of_ble_eq_true rfl) rfl ?_
        refine z_aload_n (pc := 2630) x 3 dL_law_2630 rfl rfl ?_
        refine z_call (pc := 2631) (z_canV (pc := 2631) (As := []) (st := []) x (ci := 34) rfl (fun b => m_X6_undo hl (some b)) q3329 q3330 (x.2.2.2.2.1 _ q3331) q121 q3332 n_X6_undo ⟨by decide, by decide⟩ (Nat.le_of_ble_eq_true rfl) dL_law_2631) (zv_I fun v2631 => ?_) (fun q => zx_fail)
        refine z_istore (pc := 2634) (lv' := [(7, zI v2631), (6, zI v2625), (0, zP a0), (1, zP a1), (2, zP a2), (3, zP a3), (4, zP a4), (5, zI a5)]) x dL_law_2634 (Nat.le_of_ble_eq_true rfl) rfl ?_
        refine z_aload_n (pc := 2636) x 4 dL_law_2636 rfl rfl ?_
        refine z_call (pc := 2637) (z_canV (pc := 2637) (As := []) (st := []) x (ci := 34) rfl (fun b => m_X6_thrown hl (some b)) q2870 q2871 (x.2.2.2.2.1 _ q2872) q121 q2873 n_X6_thrown ⟨by decide, by decide⟩ (Nat.le_of_ble_eq_true rfl) dL_law_2637) (zv_I fun v2637 => ?_) (fun q => zx_fail)
        refine z_iload (pc := 2640) x 1 dL_law_2640 rfl ?_
        refine z_icmp_eq (pc := 2642) (tgt := 2647) x dL_law_2642 rfl (fun _ => ?_) (fun _ => ?_)
        · refine z_iload (pc := 2647) x 1 dL_law_2647 rfl ?_
          refine z_if_ne (pc := 2649) (tgt := 2664) x dL_law_2649 rfl (fun _ => ?_) (fun _ => ?_)
          · refine z_aload_n (pc := 2652) x 5 dL_law_2652 rfl rfl ?_
            refine z_iconst (pc := 2653) x (v := (0 : Int32)) dL_law_2653 rfl ?_
            refine z_lald (pc := 2654) x (t := 3) rfl dL_law_2654 fun v2654 => ?_
            refine z_iload (pc := 2655) x 0 dL_law_2655 rfl ?_
            refine z_i2l (pc := 2657) x dL_law_2657 ?_
            refine z_lcmp (pc := 2658) x dL_law_2658 ?_
            refine z_if_eq (pc := 2659) (tgt := 2664) x dL_law_2659 rfl (fun _ => ?_) (fun _ => ?_)
            · exact z_sub [2, 3, 4, 5, 6, 7] rfl (w_L_law_2664 x hl hret hnm htab h28 a0 a1 a2 a3 a4 a5)
            · refine z_iconst (pc := 2662) x (v := (0 : Int32)) dL_law_2662 rfl ?_
              exact z_zret (pc := 2663) x hret dL_law_2663
          · exact z_sub [2, 3, 4, 5, 6, 7] rfl (w_L_law_2664 x hl hret hnm htab h28 a0 a1 a2 a3 a4 a5)
        · refine z_iconst (pc := 2645) x (v := (0 : Int32)) dL_law_2645 rfl ?_
          exact z_zret (pc := 2646) x hret dL_law_2646
      refine z_ite (fun e44_42 => ?_) (fun e44_42 => ?_)
      · refine z_tabIn (pc := 44) (tgt := 2667) x (2623) dL_law_44 e44_42 (by decide) (by decide) rfl rfl ?_
        refine z_aload_n (pc := 2667) x 1 dL_law_2667 rfl rfl ?_
        refine z_call (pc := 2668) (z_canV (pc := 2668) (As := []) (st := []) x (ci := 16) rfl (fun b => m_X1_save hl (some b)) q1455 q1456 (x.2.2.2.2.1 _ q1457) q108 q1458 n_X1_save ⟨by decide, by decide⟩ (Nat.le_of_ble_eq_true rfl) dL_law_2668) (zv_V ?_) (fun q => zx_fail)
        refine z_aload_n (pc := 2671) x 2 dL_law_2671 rfl rfl ?_
        refine z_call (pc := 2672) (z_canV (pc := 2672) (As := []) (st := []) x (ci := 34) rfl (fun b => m_X6_save hl (some b)) q3333 q3334 (x.2.2.2.2.1 _ q3335) q121 q3336 n_X6_save ⟨by decide, by decide⟩ (Nat.le_of_ble_eq_true rfl) dL_law_2672) (zv_V ?_) (fun q => zx_fail)
        refine z_goto (pc := 2675) (tgt := 2702) x dL_law_2675 rfl ?_
        exact z_sub [0, 1, 2, 3, 4, 5] rfl (w_L_law_2702 x hl hret hnm htab h28 a0 a1 a2 a3 a4 a5)
      refine z_ite (fun e44_43 => ?_) (fun e44_43 => ?_)
      · refine z_tabIn (pc := 44) (tgt := 2678) x (2634) dL_law_44 e44_43 (by decide) (by decide) rfl rfl ?_
        refine z_aload_n (pc := 2678) x 1 dL_law_2678 rfl rfl ?_
        refine z_call (pc := 2679) (z_canSX (pc := 2679) (As := [zP a1]) (st := []) x (m_X0_restore hl a1) q2761 q2762 q107 q2763 n_X0_restore ⟨by decide, by decide⟩ (Nat.le_of_ble_eq_true rfl) dL_law_2679) (zv_I fun v2679 => ?_) (fun q => zx_fail)
        refine z_istore (pc := 2682) (lv' := [(6, zI v2679), (0, zP a0), (1, zP a1), (2, zP a2), (3, zP a3), (4, zP a4), (5, zI a5)]) x dL_law_2682 (Nat.le_of_ble_eq_true rfl) rfl ?_
        refine z_aload_n (pc := 2684) x 3 dL_law_2684 rfl rfl ?_
        refine z_call (pc := 2685) (z_canV (pc := 2685) (As := []) (st := []) x (ci := 34) rfl (fun b => m_X6_restore hl (some b)) q3337 q3338 (x.2.2.2.2.1 _ q3339) q121 q3340 n_X6_restore ⟨by decide, by decide⟩ (Nat.le_of_ble_eq_true rfl) dL_law_2685) (zv_V ?_) (fun q => zx_fail)
        refine z_aload_n (pc := 2688) x 3 dL_law_2688 rfl rfl ?_
        refine z_call (pc := 2689) (z_canV (pc := 2689) (As := []) (st := []) x (ci := 34) rfl (fun b => m_X6_thrown hl (some b)) q2870 q2871 (x.2.2.2.2.1 _ q2872) q121 q2873 n_X6_thrown ⟨by decide, by decide⟩ (Nat.le_of_ble_eq_true rfl) dL_law_2689) (zv_I fun v2689 => ?_) (fun q => zx_fail)
        refine z_iload (pc := 2692) x 0 dL_law_2692 rfl ?_
        refine z_icmp_eq (pc := 2694) (tgt := 2699) x dL_law_2694 rfl (fun _ => ?_) (fun _ => ?_)
        · refine z_goto (pc := 2699) (tgt := 2702) x dL_law_2699 rfl ?_
          exact z_sub [1, 2, 3, 4, 5, 6] rfl (w_L_law_2702 x hl hret hnm htab h28 a0 a1 a2 a3 a4 a5)
        · refine z_iconst (pc := 2697) x (v := (0 : Int32)) dL_law_2697 rfl ?_
          exact z_zret (pc := 2698) x hret dL_law_2698
      refine z_tabOut (pc := 44) (tgt := 2702) x dL_law_44 (by have f1 := lv_neT (a := 0) e44_1 rfl; have f2 := lv_neT (a := 1) e44_2 rfl; have f3 := lv_neT (a := 2) e44_3 rfl; have f4 := lv_neT (a := 3) e44_4 rfl; have f5 := lv_neT (a := 4) e44_5 rfl; have f6 := lv_neT (a := 5) e44_6 rfl; have f7 := lv_neT (a := 6) e44_7 rfl; have f8 := lv_neT (a := 7) e44_8 rfl; have f9 := lv_neT (a := 8) e44_9 rfl; have f10 := lv_neT (a := 9) e44_10 rfl; have f11 := lv_neT (a := 10) e44_11 rfl; have f12 := lv_neT (a := 11) e44_12 rfl; have f13 := lv_neT (a := 12) e44_13 rfl; have f14 := lv_neT (a := 13) e44_14 rfl; have f15 := lv_neT (a := 14) e44_15 rfl; have f16 := lv_neT (a := 15) e44_16 rfl; have f17 := lv_neT (a := 16) e44_17 rfl; have f18 := lv_neT (a := 17) e44_18 rfl; have f19 := lv_neT (a := 18) e44_19 rfl; have f20 := lv_neT (a := 19) e44_20 rfl; have f21 := lv_neT (a := 20) e44_21 rfl; have f22 := lv_neT (a := 21) e44_22 rfl; have f23 := lv_neT (a := 22) e44_23 rfl; have f24 := lv_neT (a := 23) e44_24 rfl; have f25 := lv_neT (a := 24) e44_25 rfl; have f26 := lv_neT (a := 25) e44_26 rfl; have f27 := lv_neT (a := 26) e44_27 rfl; have f28 := lv_neT (a := 27) e44_28 rfl; have f29 := lv_neT (a := 28) e44_29 rfl; have f30 := lv_neT (a := 29) e44_30 rfl; have f31 := lv_neT (a := 30) e44_31 rfl; have f32 := lv_neT (a := 31) e44_32 rfl; have f33 := lv_neT (a := 32) e44_33 rfl; have f34 := lv_neT (a := 33) e44_34 rfl; have f35 := lv_neT (a := 34) e44_35 rfl; have f36 := lv_neT (a := 35) e44_36 rfl; have f37 := lv_neT (a := 36) e44_37 rfl; have f38 := lv_neT (a := 37) e44_38 rfl; have f39 := lv_neT (a := 38) e44_39 rfl; have f40 := lv_neT (a := 39) e44_40 rfl; have f41 := lv_neT (a := 40) e44_41 rfl; have f42 := lv_neT (a := 41) e44_42 rfl; have f43 := lv_neT (a := 42) e44_43 rfl; omega) rfl ?_
      exact z_sub [0, 1, 2, 3, 4, 5] rfl (w_L_law_2702 x hl hret hnm htab h28 a0 a1 a2 a3 a4 a5)
def s_L_law (E : zE) (a0 : Option Nat) : zM := zNew 16 8 [.null, .null, .null, .null, .null, .null, .int 0, .int 0] (fun v0 => zC (zSp v0 (fun b => s_X1_init E (some b))) (fun _ => zFail) (zKV (zNew 34 28 [.null, .null, .null, .null, .null, .null, .null, .null, .null, .null, .null, .null, .int 0, .int 0, .int 0, .int 0, .int 0, .int 0, .int 0, .int 0, .int 0, .null, .null, .int 0, .int 0, .int 0, .null, .int 0] (fun v8 => zC (zSp v8 (fun b => s_X6_init E (some b))) (fun _ => zFail) (zKV (zNewA 3 zAr0L (1 : Int32) (fun v17 => zNewA 4 zAr0D (1 : Int32) (fun v21 => s_L_law_28 E zN a0 v0 v8 v17 v21 (0 : Int32)))))))))
theorem m_L_law (x : zCx p l R s m args meth c E D tA cL_law 9 yL_law.cls 524) (hl : l.stackTraces = false) (hret : meth.sig.returnType = ret) (hnm : True) (htab : True) (a0 : Option Nat) : zW p l e R s m args below meth c E D tA 9 k0 (s_L_law E a0) [(0, zP a0)] 0 [] := by
  unfold s_L_law
  refine z_new (pc := 0) x in_X1 tyX1 tyX1_ok q167 q168 q108 (ci := 16) rfl (by decide) (by decide +kernel) dL_law_0 fun v0 => ?_
  refine z_dup (pc := 3) x dL_law_3 rfl ?_
  refine z_call (pc := 4) (z_canI (pc := 4) (ret := none) (As := []) (st := [zP v0]) x (fun b => m_X1_init hl (some b)) q169 rfl q170 q108 q171 n_X1_init ⟨by decide, by decide⟩ (Nat.le_of_ble_eq_true rfl) dL_law_4) (zv_V ?_) (fun q => zx_fail)
  refine z_astore_n (pc := 7) (lv' := [(1, zP v0), (0, zP a0)]) x dL_law_7 rfl (Nat.le_of_ble_eq_true rfl) rfl ?_
  refine z_new (pc := 8) x in_X6 tyX6 tyX6_ok q2779 q2780 q121 (ci := 34) rfl (by decide) (by decide +kernel) dL_law_8 fun v8 => ?_
  refine z_dup (pc := 11) x dL_law_11 rfl ?_
  refine z_call (pc := 12) (z_canI (pc := 12) (ret := none) (As := []) (st := [zP v8]) x (fun b => m_X6_init hl (some b)) q2781 rfl q2782 q121 q2783 n_X6_init ⟨by decide, by decide⟩ (Nat.le_of_ble_eq_true rfl) dL_law_12) (zv_V ?_) (fun q => zx_fail)
  refine z_astore_n (pc := 15) (lv' := [(2, zP v8), (1, zP v0), (0, zP a0)]) x dL_law_15 rfl (Nat.le_of_ble_eq_true rfl) rfl ?_
  refine z_iconst (pc := 16) x (v := (1 : Int32)) dL_law_16 rfl ?_
  refine z_newA (pc := 17) x (ty := .long) rfl (by decide) rfl q1916 (fun _ _ => rfl) dL_law_17 fun v17 => ?_
  refine z_astore_n (pc := 19) (lv' := [(3, zP v17), (2, zP v8), (1, zP v0), (0, zP a0)]) x dL_law_19 rfl (Nat.le_of_ble_eq_true rfl) rfl ?_
  refine z_iconst (pc := 20) x (v := (1 : Int32)) dL_law_20 rfl ?_
  refine z_newA (pc := 21) x (ty := .double) rfl (by decide) rfl q3341 (fun _ _ => rfl) dL_law_21 fun v21 => ?_
  refine z_astore (pc := 23) (lv' := [(4, zP v21), (3, zP v17), (2, zP v8), (1, zP v0), (0, zP a0)]) x dL_law_23 (Nat.le_of_ble_eq_true rfl) rfl ?_
  refine z_iconst (pc := 25) x (v := (0 : Int32)) dL_law_25 rfl ?_
  refine z_istore (pc := 26) (lv' := [(5, zI (0 : Int32)), (4, zP v21), (3, zP v17), (2, zP v8), (1, zP v0), (0, zP a0)]) x dL_law_26 (Nat.le_of_ble_eq_true rfl) rfl ?_
  exact z_sub [5, 4, 3, 2, 1, 0] rfl (w_L_law_28 x hl hret hnm htab zN a0 v0 v8 v17 v21 (0 : Int32))
end ZGEN9
