/-! BlackoutStart: its checks; rows for the calls that its methods make -/
section X1
variable {p : Program} {l : Launch} {e : Env} {R : Room} {s : State} {m : MethodId} {args : Array Value} {below : List Frame} {meth : Method} {c : Code} {H : Heap} {locs : List Loc} {cells slots : Nat} {Q : State → Prop}
variable {cc : ByteArray} {pc : Nat} {ls : Array Slot} {rest : List Value} {A : Nat → Prop} {L0 n nL : Nat} {g : gNum} {own : String} {rm : Room} {γ : Type} {o : γ} {lv : List (Nat × Value)} {RR : Option Value → GH → Nat → Prop} {RT : String → Addr → GH → Prop} {mc ms : Nat} {ret : Option FieldType}
variable {b d x : Nat} {sc : SC} {su : SU} {σ : SS} {G0 G : GH} {i : Int32} {index : Nat}
theorem w_X1_checkArgument {l : Launch} (hst : l.stackTraces = false) {sz : Nat} {v : Int32} : gMetX l yX1_checkArgument (ws_ yX1_checkArgument cX1_checkArgument 1 none) g.1 clX L0 (gK g) [.int v] G sz 8 90 1 6 (fun r G' n => ¬ v = 0 ∧ r = none ∧ G' = G ∧ n = sz) (fun E _ G' => v = 0 ∧ E = exN 1 ∧ G' = G) := by
  refine gMetX.of (own := RX1) (gK_ok g) (by decide +kernel) (Nat.le_of_ble_eq_true rfl) rfl ?_
  intro p e R s m args below meth c A Q ls H hF hQ hnt hG hl
  have hx := hF.1.1
  have hb := hF.1.2.1
  obtain ⟨Q', hQ', hret⟩ := gx_ret hQ
  have hl : lv_has ls 1 [(0, .int v)] := hl
  refine lv_iload_n hx hb dX1_checkArgument_0 rfl (lv_at hl 0 rfl) ?_
  refine lv_if_ne hx hb dX1_checkArgument_1 (tgt := 12) (by decide) (fun h => ?_) (fun h => ?_)
  · exact hret _ _ _ _ _ (g_vret hQ' hG ⟨h, rfl, rfl, rfl⟩ (Nat.le_of_ble_eq_true rfl) (Nat.le_of_ble_eq_true rfl) dX1_checkArgument_12)
  · exact g_throw0 hst hF hQ hnt hG hl ex_ok1 ⟨by decide, by decide⟩ q1455 q91 (fun q => ⟨h, rfl, rfl⟩) dX1_checkArgument_4 dX1_checkArgument_7 dX1_checkArgument_8 dX1_checkArgument_11 (Nat.le_of_ble_eq_true rfl) (Nat.le_of_ble_eq_true rfl) ⟨Nat.le_of_ble_eq_true rfl, Nat.le_of_ble_eq_true rfl⟩ (Nat.le_of_ble_eq_true rfl) (Nat.le_of_ble_eq_true rfl)
theorem kx_chk1 (hq : (Cond.methodLink own index yX1_checkArgument) ∈ lw_all) (hst : l.stackTraces = false) (hF : gXK p m c cc nL s args own g A R rm) (hQ : gQX p l e R s m args below meth c cc g.1 clX L0 A RR RT mc ms ret Q) (hnt : ∀ x ∈ c.exceptionTable.toList, False) (hG : gJK g L0 A s.heap G n H locs) (hl : lv_has ls nL lv) (r1 : 8 + 1 ≤ rm.frames) (r2 : 8 + (1 + 11) + 90 ≤ rm.locals) {v : Int32} {P P2 : Option γ} (h : (if v = 0 then P else P2) = some o) (hc : cells + 1 ≤ rm.cells ∧ slots + 6 ≤ rm.slots) (hmc : cells + 1 ≤ mc ∧ slots + 6 ≤ ms) (hW : (rest.map fun v => v.category).sum ≤ 8) (hdg : decode cc pc = .ok (.invokestatic index, 3))
    (kx : P = some o → ∀ q, RT (exN 1) q G) (kk : P2 = some o → ∀ (H1 : Heap) (locs1 : List Loc), gJK g L0 A s.heap G n H1 locs1 → W p l e R s m args below meth c H1 locs1 (cells + 1) (slots + 6) Q (F0 m (pc + 3) ls rest)) : W p l e R s m args below meth c H locs cells slots Q (F0 m pc ls (.int v :: rest)) := by
  refine gx_callS hF hG hl (w_X1_checkArgument (g := g) (L0 := L0) (G := G) (sz := n) (v := v) hst) (va_cwS 1 hF.1.2.2.2.2 (lw_S hq q1453 q82 q1454) rfl rfl rfl (by decide +kernel) (g_room hF r1 r2)) rfl rfl hW hdg (hfA hF.2.2.2.2 hc) (fun E q ce G1 n1 H1 locs1 hR hG1 h1 h2 h3 => ?_) (fun v' G1 n1 H1 locs1 hR hG1 => ?_)
  · obtain ⟨h4, rfl, rfl⟩ := hR
    exact gx_out hQ (fun x hx => (hnt x hx).elim) hG1 (kx (ifP h h4) q) h1 h2 h3 hmc.1 hmc.2
  · obtain ⟨h4, rfl, h5, h6⟩ := hR
    rw [h5, h6] at hG1
    exact kk (ifN h h4) H1 locs1 hG1
theorem w_X1_checkState {l : Launch} (hst : l.stackTraces = false) {sz : Nat} {v : Int32} : gMetX l yX1_checkState (ws_ yX1_checkState cX1_checkState 1 none) g.1 clX L0 (gK g) [.int v] G sz 8 90 1 6 (fun r G' n => ¬ v = 0 ∧ r = none ∧ G' = G ∧ n = sz) (fun E _ G' => v = 0 ∧ E = exN 2 ∧ G' = G) := by
  refine gMetX.of (own := RX1) (gK_ok g) (by decide +kernel) (Nat.le_of_ble_eq_true rfl) rfl ?_
  intro p e R s m args below meth c A Q ls H hF hQ hnt hG hl
  have hx := hF.1.1
  have hb := hF.1.2.1
  obtain ⟨Q', hQ', hret⟩ := gx_ret hQ
  have hl : lv_has ls 1 [(0, .int v)] := hl
  refine lv_iload_n hx hb dX1_checkState_0 rfl (lv_at hl 0 rfl) ?_
  refine lv_if_ne hx hb dX1_checkState_1 (tgt := 12) (by decide) (fun h => ?_) (fun h => ?_)
  · exact hret _ _ _ _ _ (g_vret hQ' hG ⟨h, rfl, rfl, rfl⟩ (Nat.le_of_ble_eq_true rfl) (Nat.le_of_ble_eq_true rfl) dX1_checkState_12)
  · exact g_throw0 hst hF hQ hnt hG hl ex_ok2 ⟨by decide, by decide⟩ q994 q109 (fun q => ⟨h, rfl, rfl⟩) dX1_checkState_4 dX1_checkState_7 dX1_checkState_8 dX1_checkState_11 (Nat.le_of_ble_eq_true rfl) (Nat.le_of_ble_eq_true rfl) ⟨Nat.le_of_ble_eq_true rfl, Nat.le_of_ble_eq_true rfl⟩ (Nat.le_of_ble_eq_true rfl) (Nat.le_of_ble_eq_true rfl)
theorem kx_chk2 (hq : (Cond.methodLink own index yX1_checkState) ∈ lw_all) (hst : l.stackTraces = false) (hF : gXK p m c cc nL s args own g A R rm) (hQ : gQX p l e R s m args below meth c cc g.1 clX L0 A RR RT mc ms ret Q) (hnt : ∀ x ∈ c.exceptionTable.toList, False) (hG : gJK g L0 A s.heap G n H locs) (hl : lv_has ls nL lv) (r1 : 8 + 1 ≤ rm.frames) (r2 : 8 + (1 + 11) + 90 ≤ rm.locals) {v : Int32} {P P2 : Option γ} (h : (if v = 0 then P else P2) = some o) (hc : cells + 1 ≤ rm.cells ∧ slots + 6 ≤ rm.slots) (hmc : cells + 1 ≤ mc ∧ slots + 6 ≤ ms) (hW : (rest.map fun v => v.category).sum ≤ 8) (hdg : decode cc pc = .ok (.invokestatic index, 3))
    (kx : P = some o → ∀ q, RT (exN 2) q G) (kk : P2 = some o → ∀ (H1 : Heap) (locs1 : List Loc), gJK g L0 A s.heap G n H1 locs1 → W p l e R s m args below meth c H1 locs1 (cells + 1) (slots + 6) Q (F0 m (pc + 3) ls rest)) : W p l e R s m args below meth c H locs cells slots Q (F0 m pc ls (.int v :: rest)) := by
  refine gx_callS hF hG hl (w_X1_checkState (g := g) (L0 := L0) (G := G) (sz := n) (v := v) hst) (va_cwS 1 hF.1.2.2.2.2 (lw_S hq q992 q82 q993) rfl rfl rfl (by decide +kernel) (g_room hF r1 r2)) rfl rfl hW hdg (hfA hF.2.2.2.2 hc) (fun E q ce G1 n1 H1 locs1 hR hG1 h1 h2 h3 => ?_) (fun v' G1 n1 H1 locs1 hR hG1 => ?_)
  · obtain ⟨h4, rfl, rfl⟩ := hR
    exact gx_out hQ (fun x hx => (hnt x hx).elim) hG1 (kx (ifP h h4) q) h1 h2 h3 hmc.1 hmc.2
  · obtain ⟨h4, rfl, h5, h6⟩ := hR
    rw [h5, h6] at hG1
    exact kk (ifN h h4) H1 locs1 hG1
theorem w_X1_checkIndex {l : Launch} (hst : l.stackTraces = false) {sz : Nat} {v : Int32} : gMetX l yX1_checkIndex (ws_ yX1_checkIndex cX1_checkIndex 1 none) g.1 clX L0 (gK g) [.int v] G sz 8 90 1 6 (fun r G' n => ¬ v = 0 ∧ r = none ∧ G' = G ∧ n = sz) (fun E _ G' => v = 0 ∧ E = exN 3 ∧ G' = G) := by
  refine gMetX.of (own := RX1) (gK_ok g) (by decide +kernel) (Nat.le_of_ble_eq_true rfl) rfl ?_
  intro p e R s m args below meth c A Q ls H hF hQ hnt hG hl
  have hx := hF.1.1
  have hb := hF.1.2.1
  obtain ⟨Q', hQ', hret⟩ := gx_ret hQ
  have hl : lv_has ls 1 [(0, .int v)] := hl
  refine lv_iload_n hx hb dX1_checkIndex_0 rfl (lv_at hl 0 rfl) ?_
  refine lv_if_ne hx hb dX1_checkIndex_1 (tgt := 12) (by decide) (fun h => ?_) (fun h => ?_)
  · exact hret _ _ _ _ _ (g_vret hQ' hG ⟨h, rfl, rfl, rfl⟩ (Nat.le_of_ble_eq_true rfl) (Nat.le_of_ble_eq_true rfl) dX1_checkIndex_12)
  · exact g_throw0 hst hF hQ hnt hG hl ex_ok3 ⟨by decide, by decide⟩ q1035 q110 (fun q => ⟨h, rfl, rfl⟩) dX1_checkIndex_4 dX1_checkIndex_7 dX1_checkIndex_8 dX1_checkIndex_11 (Nat.le_of_ble_eq_true rfl) (Nat.le_of_ble_eq_true rfl) ⟨Nat.le_of_ble_eq_true rfl, Nat.le_of_ble_eq_true rfl⟩ (Nat.le_of_ble_eq_true rfl) (Nat.le_of_ble_eq_true rfl)
theorem kx_chk3 (hq : (Cond.methodLink own index yX1_checkIndex) ∈ lw_all) (hst : l.stackTraces = false) (hF : gXK p m c cc nL s args own g A R rm) (hQ : gQX p l e R s m args below meth c cc g.1 clX L0 A RR RT mc ms ret Q) (hnt : ∀ x ∈ c.exceptionTable.toList, False) (hG : gJK g L0 A s.heap G n H locs) (hl : lv_has ls nL lv) (r1 : 8 + 1 ≤ rm.frames) (r2 : 8 + (1 + 11) + 90 ≤ rm.locals) {v : Int32} {P P2 : Option γ} (h : (if v = 0 then P else P2) = some o) (hc : cells + 1 ≤ rm.cells ∧ slots + 6 ≤ rm.slots) (hmc : cells + 1 ≤ mc ∧ slots + 6 ≤ ms) (hW : (rest.map fun v => v.category).sum ≤ 8) (hdg : decode cc pc = .ok (.invokestatic index, 3))
    (kx : P = some o → ∀ q, RT (exN 3) q G) (kk : P2 = some o → ∀ (H1 : Heap) (locs1 : List Loc), gJK g L0 A s.heap G n H1 locs1 → W p l e R s m args below meth c H1 locs1 (cells + 1) (slots + 6) Q (F0 m (pc + 3) ls rest)) : W p l e R s m args below meth c H locs cells slots Q (F0 m pc ls (.int v :: rest)) := by
  refine gx_callS hF hG hl (w_X1_checkIndex (g := g) (L0 := L0) (G := G) (sz := n) (v := v) hst) (va_cwS 1 hF.1.2.2.2.2 (lw_S hq q1033 q82 q1034) rfl rfl rfl (by decide +kernel) (g_room hF r1 r2)) rfl rfl hW hdg (hfA hF.2.2.2.2 hc) (fun E q ce G1 n1 H1 locs1 hR hG1 h1 h2 h3 => ?_) (fun v' G1 n1 H1 locs1 hR hG1 => ?_)
  · obtain ⟨h4, rfl, rfl⟩ := hR
    exact gx_out hQ (fun x hx => (hnt x hx).elim) hG1 (kx (ifP h h4) q) h1 h2 h3 hmc.1 hmc.2
  · obtain ⟨h4, rfl, h5, h6⟩ := hR
    rw [h5, h6] at hG1
    exact kk (ifN h h4) H1 locs1 hG1
theorem w_X1_checkElement {l : Launch} (hst : l.stackTraces = false) {sz : Nat} {v : Int32} : gMetX l yX1_checkElement (ws_ yX1_checkElement cX1_checkElement 1 none) g.1 clX L0 (gK g) [.int v] G sz 8 90 1 6 (fun r G' n => ¬ v = 0 ∧ r = none ∧ G' = G ∧ n = sz) (fun E _ G' => v = 0 ∧ E = exN 4 ∧ G' = G) := by
  refine gMetX.of (own := RX1) (gK_ok g) (by decide +kernel) (Nat.le_of_ble_eq_true rfl) rfl ?_
  intro p e R s m args below meth c A Q ls H hF hQ hnt hG hl
  have hx := hF.1.1
  have hb := hF.1.2.1
  obtain ⟨Q', hQ', hret⟩ := gx_ret hQ
  have hl : lv_has ls 1 [(0, .int v)] := hl
  refine lv_iload_n hx hb dX1_checkElement_0 rfl (lv_at hl 0 rfl) ?_
  refine lv_if_ne hx hb dX1_checkElement_1 (tgt := 12) (by decide) (fun h => ?_) (fun h => ?_)
  · exact hret _ _ _ _ _ (g_vret hQ' hG ⟨h, rfl, rfl, rfl⟩ (Nat.le_of_ble_eq_true rfl) (Nat.le_of_ble_eq_true rfl) dX1_checkElement_12)
  · exact g_throw0 hst hF hQ hnt hG hl ex_ok4 ⟨by decide, by decide⟩ q1477 q120 (fun q => ⟨h, rfl, rfl⟩) dX1_checkElement_4 dX1_checkElement_7 dX1_checkElement_8 dX1_checkElement_11 (Nat.le_of_ble_eq_true rfl) (Nat.le_of_ble_eq_true rfl) ⟨Nat.le_of_ble_eq_true rfl, Nat.le_of_ble_eq_true rfl⟩ (Nat.le_of_ble_eq_true rfl) (Nat.le_of_ble_eq_true rfl)
theorem kx_chk4 (hq : (Cond.methodLink own index yX1_checkElement) ∈ lw_all) (hst : l.stackTraces = false) (hF : gXK p m c cc nL s args own g A R rm) (hQ : gQX p l e R s m args below meth c cc g.1 clX L0 A RR RT mc ms ret Q) (hnt : ∀ x ∈ c.exceptionTable.toList, False) (hG : gJK g L0 A s.heap G n H locs) (hl : lv_has ls nL lv) (r1 : 8 + 1 ≤ rm.frames) (r2 : 8 + (1 + 11) + 90 ≤ rm.locals) {v : Int32} {P P2 : Option γ} (h : (if v = 0 then P else P2) = some o) (hc : cells + 1 ≤ rm.cells ∧ slots + 6 ≤ rm.slots) (hmc : cells + 1 ≤ mc ∧ slots + 6 ≤ ms) (hW : (rest.map fun v => v.category).sum ≤ 8) (hdg : decode cc pc = .ok (.invokestatic index, 3))
    (kx : P = some o → ∀ q, RT (exN 4) q G) (kk : P2 = some o → ∀ (H1 : Heap) (locs1 : List Loc), gJK g L0 A s.heap G n H1 locs1 → W p l e R s m args below meth c H1 locs1 (cells + 1) (slots + 6) Q (F0 m (pc + 3) ls rest)) : W p l e R s m args below meth c H locs cells slots Q (F0 m pc ls (.int v :: rest)) := by
  refine gx_callS hF hG hl (w_X1_checkElement (g := g) (L0 := L0) (G := G) (sz := n) (v := v) hst) (va_cwS 1 hF.1.2.2.2.2 (lw_S hq q1475 q82 q1476) rfl rfl rfl (by decide +kernel) (g_room hF r1 r2)) rfl rfl hW hdg (hfA hF.2.2.2.2 hc) (fun E q ce G1 n1 H1 locs1 hR hG1 h1 h2 h3 => ?_) (fun v' G1 n1 H1 locs1 hR hG1 => ?_)
  · obtain ⟨h4, rfl, rfl⟩ := hR
    exact gx_out hQ (fun x hx => (hnt x hx).elim) hG1 (kx (ifP h h4) q) h1 h2 h3 hmc.1 hmc.2
  · obtain ⟨h4, rfl, h5, h6⟩ := hR
    rw [h5, h6] at hG1
    exact kk (ifN h h4) H1 locs1 hG1
/-- BlackoutStart.in -/
theorem kx_in (hq : (Cond.methodLink own index yX1_in) ∈ lw_all) (hF : gXK p m c cc nL s args own g A R rm) (hG : gJK g L0 A s.heap G n H locs) (hl : lv_has ls nL lv) (r1 : 0 + 1 ≤ rm.frames) (r2 : 8 + (6 + 11) + 0 ≤ rm.locals) {v0 v1 v2 : Int64} {f : Int32 → Option γ} (h : ob1 (j_X1_in v0 v1 v2) f = some o) (hc : cells ≤ rm.cells ∧ slots ≤ rm.slots) (hW : (rest.map fun v => v.category).sum ≤ 8) (hdg : decode cc pc = .ok (.invokestatic index, 3))
    (kk : ∀ (v : Int32) (H1 : Heap) (locs1 : List Loc), f v = some o → gJK g L0 A s.heap G n H1 locs1 → W p l e R s m args below meth c H1 locs1 cells slots Q (F0 m (pc + 3) ls (.int v :: rest))) : W p l e R s m args below meth c H locs cells slots Q (F0 m pc ls (.long v2 :: .long v1 :: .long v0 :: rest)) := by
  obtain ⟨v, hv, h⟩ := ob1_e h
  refine g_callS hF hG hl (w_X1_in (g := g) (l := l) (L0 := L0) (G := G) (sz := n) hv) (va_cwS 3 hF.1.2.2.2.2 (lw_S hq q1030 q82 q1031) rfl rfl rfl (by decide +kernel) (g_room hF r1 r2)) rfl rfl hW hdg (hf0 hF.2.2.2.2 hc) (fun v G1 n1 H1 locs1 hR hG1 => ?_)
  obtain ⟨rfl, h2, h3⟩ := hR
  rw [h2, h3] at hG1
  exact kk _ H1 locs1 h hG1
/-- BlackoutStart.has, of its own -/
theorem kx_has (hq : (Cond.methodLink own index yX1_has) ∈ lw_all) (hF : gXK p m c cc nL s args own g A R rm) (hG : gJK g L0 A s.heap G n H locs) (hl : lv_has ls nL lv) (r1 : 0 + 1 ≤ rm.frames) (r2 : 8 + (2 + 11) + 0 ≤ rm.locals) {x y : Int32} {f : Int32 → Option γ} (h : ob1 (j_X1_has x y) f = some o) (hc : cells ≤ rm.cells ∧ slots ≤ rm.slots) (hW : (rest.map fun v => v.category).sum ≤ 8) (hdg : decode cc pc = .ok (.invokestatic index, 3))
    (kk : ∀ (v : Int32) (H1 : Heap) (locs1 : List Loc), f v = some o → gJK g L0 A s.heap G n H1 locs1 → W p l e R s m args below meth c H1 locs1 cells slots Q (F0 m (pc + 3) ls (.int v :: rest))) : W p l e R s m args below meth c H locs cells slots Q (F0 m pc ls (.int y :: .int x :: rest)) := by
  obtain ⟨v, hv, h⟩ := ob1_e h
  refine g_callS hF hG hl (w_X1_has (g := g) (l := l) (L0 := L0) (G := G) (sz := n) hv) (va_cwS 2 hF.1.2.2.2.2 (lw_S hq q708 q82 q709) rfl rfl rfl (by decide +kernel) (g_room hF r1 r2)) rfl rfl hW hdg (hf0 hF.2.2.2.2 hc) (fun v G1 n1 H1 locs1 hR hG1 => ?_)
  obtain ⟨rfl, h2, h3⟩ := hR
  rw [h2, h3] at hG1
  exact kk _ H1 locs1 h hG1
theorem dq_size {f : Nat → Option Nat} {h t : Int32} {L : List Nat} (q : dqR f h t L) {a ar : Nat} : j_J18_size a ar h t 17 f = some (Int32.ofNat L.length) := by
  obtain ⟨k, hk, rfl, hL, rfl, -⟩ := q
  have h1 : ∀ k, k < 17 → ∀ n, n ≤ 8 → j_J18_sub (nI ((k + n) % 17)) (nI k) (Int32.ofNat 17) = some (Int32.ofNat n) := by decide +kernel
  unfold j_J18_size
  rw [h1 k hk _ hL]
  rfl
/-- the history's length -/
theorem kx_hsz {f : Nat → Option Nat} {h t : Int32} {L : List Nat} {hd he : Nat} (hq : (Cond.methodLink own index yJ18_size) ∈ lw_all) (hF : gXK p m c cc nL s args own g A R rm) (hG : gJK g L0 A s.heap G n H locs) (hl : lv_has ls nL lv) (hhd : G hd = some (.inr (13, [.ref he, .int h, .int t]))) (hhe : G he = some (aO g.2.1 4 17 f)) (hdq : dqR f h t L) (r1 : 1 + 1 ≤ rm.frames) (r2 : 8 + (1 + 11) + 22 ≤ rm.locals) (hc : cells ≤ rm.cells ∧ slots ≤ rm.slots) (hW : (rest.map fun v => v.category).sum ≤ 8) (hdg : decode cc pc = .ok (.invokevirtual index, 3))
    (kk : ∀ (H1 : Heap) (locs1 : List Loc), gJK g L0 A s.heap G n H1 locs1 → W p l e R s m args below meth c H1 locs1 cells slots Q (F0 m (pc + 3) ls (.int (Int32.ofNat L.length) :: rest))) : W p l e R s m args below meth c H locs cells slots Q (F0 m pc ls (.ref hd :: rest)) := by
  refine g_callV hF hG hl hhd (C := RJ18) (T := TJ18) (N := 3) rfl (w_J18_size (g := g) (l := l) (L0 := L0) (G := G) (sz := n) hhd hhe (dq_size hdq)) (cwV 0 hF.1.2.2.2.2 (lw_V hq q846 q847 q107 q848) rfl rfl rfl (by decide +kernel) (g_room hF r1 r2)) rfl rfl hW hdg (hf0 hF.2.2.2.2 hc) (fun v G1 n1 H1 locs1 hR hG1 => ?_)
  obtain ⟨rfl, h2, h3⟩ := hR
  rw [h2, h3] at hG1
  exact kk H1 locs1 hG1
end X1
