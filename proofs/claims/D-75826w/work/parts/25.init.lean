/-! State.<init>: the block, built up -/
def zS : SS := (fun _ => 0, fun _ _ => 0)
def pG (dA : Nat → ClassId) (b d u : Nat) (sc : SC) (k : Nat) (fs : List Value) (G : GH) : GH := fun q => if q = b then some (.inr (1, fs)) else if b + d < q ∧ q ≤ b + d + k then some (sE dA b d u sc zS (q - (b + d))) else G q
section PG
variable {dA : Nat → ClassId} {b d u k : Nat} {sc : SC} {fs fs2 : List Value} {G : GH}
theorem pG_0 : pG dA b d u sc k fs G b = some (.inr (1, fs)) := if_pos rfl
theorem pG_out {a : Nat} (h : a ≠ b ∧ (a ≤ b + d ∨ b + d + k < a)) : pG dA b d u sc k fs G a = G a := by
  unfold pG
  rw [if_neg (by omega), if_neg (by omega)]
theorem pG_set : gU (pG dA b d u sc k fs G) b (.inr (1, fs2)) = pG dA b d u sc k fs2 G := by
  funext q
  by_cases hq : q = b
  · subst hq
    rw [gU_s, pG_0]
  · rw [gU_n hq]
    unfold pG
    rw [if_neg hq, if_neg hq]
theorem pG_new : gU (pG dA b d u sc k fs G) (b + d + (k + 1)) (sE dA b d u sc zS (k + 1)) = pG dA b d u sc (k + 1) fs G := by
  funext q
  by_cases hq : q = b + d + (k + 1)
  · subst hq
    rw [gU_s]
    unfold pG
    rw [if_neg (by omega), if_pos (by omega), show b + d + (k + 1) - (b + d) = k + 1 from by omega]
  · rw [gU_n hq]
    unfold pG
    by_cases h0 : q = b
    · rw [if_pos h0, if_pos h0]
    · rw [if_neg h0, if_neg h0]
      by_cases h1 : b + d < q ∧ q ≤ b + d + k
      · rw [if_pos h1, if_pos (by omega)]
      · rw [if_neg h1, if_neg (by omega)]
theorem pG_new2 : gU (gU (pG dA b d u sc k fs G) (b + d + (k + 1)) (sE dA b d u sc zS (k + 1))) (b + d + (k + 2)) (sE dA b d u sc zS (k + 2)) = pG dA b d u sc (k + 2) fs G := by
  rw [pG_new, pG_new]
theorem pG_new4 : gU (gU (gU (gU (pG dA b d u sc k fs G) (b + d + (k + 1)) (sE dA b d u sc zS (k + 1))) (b + d + (k + 2)) (sE dA b d u sc zS (k + 2))) (b + d + (k + 3)) (sE dA b d u sc zS (k + 3))) (b + d + (k + 4)) (sE dA b d u sc zS (k + 4)) = pG dA b d u sc (k + 4) fs G := by
  rw [pG_new, pG_new, pG_new, pG_new]
theorem pG_fin : pG dA b d u sc 17 (sv b d u zS) G = sG dA b d u sc zS G := by
  funext q
  unfold pG sG
  by_cases h0 : q = b
  · subst h0
    rw [if_pos rfl, if_pos rfl]
    rfl
  · rw [if_neg h0, if_neg h0]
theorem pG_id (h : G b = some (.inr (1, fs))) : pG dA b d u sc 0 fs G = G := by
  funext q
  unfold pG
  by_cases h0 : q = b
  · rw [if_pos h0, h0, h]
  · rw [if_neg h0, if_neg (by omega)]
end PG
section GN
variable {p : Program} {l : Launch} {e : Env} {R : Room} {s : State} {m : MethodId} {args : Array Value} {below : List Frame} {meth : Method} {c : Code} {H : Heap} {locs : List Loc} {cells slots : Nat} {Q : State → Prop}
variable {cc : ByteArray} {pc : Nat} {ls : Array Slot} {rest : List Value} {A : Nat → Prop} {L0 n nL : Nat} {g : gNum} {own : String} {rm : Room} {γ : Type} {o : γ} {lv : List (Nat × Value)} {G : GH} {index : Nat}
/-- new Order; dup; <init>: anywhere -/
theorem g_newo {i1 : Nat} {host : String} (hq1 : (Cond.classLink own i1 RX4) ∈ lw_all) (hq : (Cond.methodLinkNest own index yX4_init host) ∈ lw_tbl) (hF : gXK p m c cc nL s args own g A R rm) (hG : gJK g L0 A s.heap G n H locs) (hlt : L0 ≤ n) (hl : lv_has ls nL lv) (r1 : 1 + 1 ≤ rm.frames) (r2 : 8 + (1 + 11) + 12 ≤ rm.locals) (hc : cells + 2 ≤ rm.cells ∧ slots + 14 ≤ rm.slots) (hW : (rest.map fun v => v.category).sum ≤ 7) (hdg1 : decode cc pc = .ok (.new i1, 3)) (hdg2 : decode cc (pc + 3) = .ok (.dup, 1)) (hdg3 : decode cc (pc + 3 + 1) = .ok (.invokespecial index, 3))
    (kk : ∀ (H1 : Heap) (locs1 : List Loc), gJK g L0 A s.heap (gU (gU G n (.inr (3, [.ref (n + 1), .int 0]))) (n + 1) (.inl (g.2.1 0, 12, .inl (fun _ => 0)))) (n + 1 + 1) H1 locs1 → W p l e R s m args below meth c H1 locs1 (cells + 1 + 1) (slots + 2 + 12) Q (F0 m (pc + 3 + 1 + 3) ls (.ref n :: rest))) : W p l e R s m args below meth c H locs cells slots Q (F0 m pc ls rest) := by
  refine g_new hF hG in_X4 tyX4 tyX4_ok hq1 q544 q104 (ci := 3) rfl (fs := [Value.null, .int 0]) (by decide) (by rw [hF.2.2.2.2]; exact Nat.le_trans (by omega) hc.1) (by rw [hF.2.2.2.2]; exact Nat.le_trans (by omega) hc.2) hdg1 (fun H hG => ?_)
  refine lv_dup hF.1.1 hF.1.2.1 hdg2 rfl ?_
  refine g_callIN hF hG hl (w_X4_init (g := g) (l := l) (L0 := L0) (a := n) (many := 0) gU_s (by omega) (by omega) rfl) ⟨va_cnB 0 hF.1.2.2.2.2 (lw_meth q547) rfl rfl rfl (hF.nw hq rfl) (hF.1.2.2.2.2 _ q104) (by decide +kernel) (g_room hF r1 r2), rfl, hF.1.2.2.2.2 _ q546⟩ (As := []) rfl rfl (by simp only [List.map, List.sum_cons]; show 1 + _ ≤ 8; omega) hdg3 (hfA hF.2.2.2.2 ⟨by have := hc.1; omega, by have := hc.2; omega⟩) (fun v G1 n1 H1 locs1 hR hG1 => ?_)
  obtain ⟨rfl, h2, h3⟩ := hR
  rw [h2, h3, gU_ov] at hG1
  exact kk H1 locs1 hG1
end GN
set_option maxRecDepth 100000 in
theorem w_X2_init {l : Launch} {g : gNum} {L0 b d u : Nat} {sc : SC} {G : GH} {fu : List Value} (hL : L0 ≤ b) (f_b : G b = some (.inr (1, [Value.null, Value.null, Value.null, Value.null, Value.null, Value.null, Value.null, Value.null, Value.null, Value.null, Value.null, Value.null, Value.null, .int 0, .int 0, .int 0, .int 0, .int 0, .int 0, .int 0, .int 0, .int 0, .int 0, .int 0, .int 0, .int 0]))) (hu : G u = some (.inr (2, fu))) (hub : gO b d u) (hux : u < b + d + 1) (hsc : fu[3]? = some (.ref sc.1)) : gMet l yX2_init (ws_ yX2_init cX2_init 2 none) g.1 clX L0 (gK g) [.ref b, .ref u] G (b + d + 1) 2 60 17 285 (fun v G' n => v = none ∧ G' = sG g.2.1 b d u sc zS G ∧ n = b + d + 18) := by
  refine gMet.of (own := RX2) (gK_ok g) (by decide +kernel) (Nat.le_of_ble_eq_true rfl) rfl ?_
  intro p e R s m args below meth c A Q ls H hF hQ hin hG hl
  have hx := hF.1.1
  have hb := hF.1.2.1
  have hts := hF.1.2.2.2.2
  have hl : lv_has ls 2 [(0, .ref b), (1, .ref u)] := hl
  have hG : gJK g L0 A s.heap (pG g.2.1 b d u sc 0 [Value.null, Value.null, Value.null, Value.null, Value.null, Value.null, Value.null, Value.null, Value.null, Value.null, Value.null, Value.null, Value.null, .int 0, .int 0, .int 0, .int 0, .int 0, .int 0, .int 0, .int 0, .int 0, .int 0, .int 0, .int 0, .int 0] G) (b + d + 1) H [] := by
    rw [pG_id f_b]
    exact hG
  refine lv_aload_n hx hb dX2_init_0 rfl (lv_at hl 0 rfl) ?_
  refine W.objInit hx hb hF.1.2.2.2.1 (hts _ q542) (hts _ q128) (hts _ q129) rfl (by rw [hF.1.2.2.1]; exact hl.1) rfl dX2_init_1 (by rw [hF.2.2.2.2]; exact Nat.le_of_ble_eq_true rfl) (by rw [hF.2.2.2.2]; exact Nat.le_of_ble_eq_true rfl) ?_
  refine W.eq (g2 := F0 m 4 ls []) rfl ?_
  refine lv_aload_n hx hb dX2_init_4 rfl (lv_at hl 0 rfl) ?_
  refine lv_bipush (v := 12) hx hb dX2_init_5 (by decide) ?_
  refine g_newa hF hG (ty := .int) rfl q538 (cA := g.2.1 0) 0 rfl (fun _ q => by cases q) (i := 12) (N := 12) (a0 := (12, .inl (fun _ => 0))) (fun _ => rfl) (by decide) (by decide) (by decide) (by rw [hF.2.2.2.2]; exact Nat.le_of_ble_eq_true rfl) (by rw [hF.2.2.2.2]; exact Nat.le_of_ble_eq_true rfl) dX2_init_7 (fun H hG => ?_)
  rw [show gU (pG g.2.1 b d u sc 0 [Value.null, Value.null, Value.null, Value.null, Value.null, Value.null, Value.null, Value.null, Value.null, Value.null, Value.null, Value.null, Value.null, .int 0, .int 0, .int 0, .int 0, .int 0, .int 0, .int 0, .int 0, .int 0, .int 0, .int 0, .int 0, .int 0] G) (b + d + 1) (.inl (g.2.1 0, 12, .inl (fun _ => 0))) = pG g.2.1 b d u sc 1 [Value.null, Value.null, Value.null, Value.null, Value.null, Value.null, Value.null, Value.null, Value.null, Value.null, Value.null, Value.null, Value.null, .int 0, .int 0, .int 0, .int 0, .int 0, .int 0, .int 0, .int 0, .int 0, .int 0, .int 0, .int 0, .int 0] G from pG_new] at hG
  have hG : gJK g L0 A s.heap (pG g.2.1 b d u sc 1 [Value.null, Value.null, Value.null, Value.null, Value.null, Value.null, Value.null, Value.null, Value.null, Value.null, Value.null, Value.null, Value.null, .int 0, .int 0, .int 0, .int 0, .int 0, .int 0, .int 0, .int 0, .int 0, .int 0, .int 0, .int 0, .int 0] G) (b + d + 2) H _ := hG
  refine g_putF hF hG pG_0 hL (C := RX2) (T := TX2) (N := 26) rfl in_X2 tyX2 tyX2_ok nmX2 1 (by decide) q591 (fun _ h => h) rfl (hin rfl) rfl (by first | rfl | decide) rfl (Nat.le_of_ble_eq_true rfl) dX2_init_9 (fun H locs hG => ?_)
  rw [pG_set] at hG
  have hG : gJK g L0 A s.heap (pG g.2.1 b d u sc 1 [Value.null, .ref (b + d + 1), Value.null, Value.null, Value.null, Value.null, Value.null, Value.null, Value.null, Value.null, Value.null, Value.null, Value.null, .int 0, .int 0, .int 0, .int 0, .int 0, .int 0, .int 0, .int 0, .int 0, .int 0, .int 0, .int 0, .int 0] G) (b + d + 2) H _ := hG
  refine lv_aload_n hx hb dX2_init_12 rfl (lv_at hl 0 rfl) ?_
  refine lv_bipush (v := 12) hx hb dX2_init_13 (by decide) ?_
  refine g_newa hF hG (ty := .int) rfl q538 (cA := g.2.1 0) 0 rfl (fun _ q => by cases q) (i := 12) (N := 12) (a0 := (12, .inl (fun _ => 0))) (fun _ => rfl) (by decide) (by decide) (by decide) (by rw [hF.2.2.2.2]; exact Nat.le_of_ble_eq_true rfl) (by rw [hF.2.2.2.2]; exact Nat.le_of_ble_eq_true rfl) dX2_init_15 (fun H hG => ?_)
  rw [show gU (pG g.2.1 b d u sc 1 [Value.null, .ref (b + d + 1), Value.null, Value.null, Value.null, Value.null, Value.null, Value.null, Value.null, Value.null, Value.null, Value.null, Value.null, .int 0, .int 0, .int 0, .int 0, .int 0, .int 0, .int 0, .int 0, .int 0, .int 0, .int 0, .int 0, .int 0] G) (b + d + 2) (.inl (g.2.1 0, 12, .inl (fun _ => 0))) = pG g.2.1 b d u sc 2 [Value.null, .ref (b + d + 1), Value.null, Value.null, Value.null, Value.null, Value.null, Value.null, Value.null, Value.null, Value.null, Value.null, Value.null, .int 0, .int 0, .int 0, .int 0, .int 0, .int 0, .int 0, .int 0, .int 0, .int 0, .int 0, .int 0, .int 0] G from pG_new] at hG
  have hG : gJK g L0 A s.heap (pG g.2.1 b d u sc 2 [Value.null, .ref (b + d + 1), Value.null, Value.null, Value.null, Value.null, Value.null, Value.null, Value.null, Value.null, Value.null, Value.null, Value.null, .int 0, .int 0, .int 0, .int 0, .int 0, .int 0, .int 0, .int 0, .int 0, .int 0, .int 0, .int 0, .int 0] G) (b + d + 3) H _ := hG
  refine g_putF hF hG pG_0 hL (C := RX2) (T := TX2) (N := 26) rfl in_X2 tyX2 tyX2_ok nmX2 2 (by decide) q593 (fun _ h => h) rfl (hin rfl) rfl (by first | rfl | decide) rfl (Nat.le_of_ble_eq_true rfl) dX2_init_17 (fun H locs hG => ?_)
  rw [pG_set] at hG
  have hG : gJK g L0 A s.heap (pG g.2.1 b d u sc 2 [Value.null, .ref (b + d + 1), .ref (b + d + 2), Value.null, Value.null, Value.null, Value.null, Value.null, Value.null, Value.null, Value.null, Value.null, Value.null, .int 0, .int 0, .int 0, .int 0, .int 0, .int 0, .int 0, .int 0, .int 0, .int 0, .int 0, .int 0, .int 0] G) (b + d + 3) H _ := hG
  refine lv_aload_n hx hb dX2_init_20 rfl (lv_at hl 0 rfl) ?_
  refine lv_bipush (v := 12) hx hb dX2_init_21 (by decide) ?_
  refine g_newa hF hG (ty := .int) rfl q538 (cA := g.2.1 0) 0 rfl (fun _ q => by cases q) (i := 12) (N := 12) (a0 := (12, .inl (fun _ => 0))) (fun _ => rfl) (by decide) (by decide) (by decide) (by rw [hF.2.2.2.2]; exact Nat.le_of_ble_eq_true rfl) (by rw [hF.2.2.2.2]; exact Nat.le_of_ble_eq_true rfl) dX2_init_23 (fun H hG => ?_)
  rw [show gU (pG g.2.1 b d u sc 2 [Value.null, .ref (b + d + 1), .ref (b + d + 2), Value.null, Value.null, Value.null, Value.null, Value.null, Value.null, Value.null, Value.null, Value.null, Value.null, .int 0, .int 0, .int 0, .int 0, .int 0, .int 0, .int 0, .int 0, .int 0, .int 0, .int 0, .int 0, .int 0] G) (b + d + 3) (.inl (g.2.1 0, 12, .inl (fun _ => 0))) = pG g.2.1 b d u sc 3 [Value.null, .ref (b + d + 1), .ref (b + d + 2), Value.null, Value.null, Value.null, Value.null, Value.null, Value.null, Value.null, Value.null, Value.null, Value.null, .int 0, .int 0, .int 0, .int 0, .int 0, .int 0, .int 0, .int 0, .int 0, .int 0, .int 0, .int 0, .int 0] G from pG_new] at hG
  have hG : gJK g L0 A s.heap (pG g.2.1 b d u sc 3 [Value.null, .ref (b + d + 1), .ref (b + d + 2), Value.null, Value.null, Value.null, Value.null, Value.null, Value.null, Value.null, Value.null, Value.null, Value.null, .int 0, .int 0, .int 0, .int 0, .int 0, .int 0, .int 0, .int 0, .int 0, .int 0, .int 0, .int 0, .int 0] G) (b + d + 4) H _ := hG
  refine g_putF hF hG pG_0 hL (C := RX2) (T := TX2) (N := 26) rfl in_X2 tyX2 tyX2_ok nmX2 3 (by decide) q595 (fun _ h => h) rfl (hin rfl) rfl (by first | rfl | decide) rfl (Nat.le_of_ble_eq_true rfl) dX2_init_25 (fun H locs hG => ?_)
  rw [pG_set] at hG
  have hG : gJK g L0 A s.heap (pG g.2.1 b d u sc 3 [Value.null, .ref (b + d + 1), .ref (b + d + 2), .ref (b + d + 3), Value.null, Value.null, Value.null, Value.null, Value.null, Value.null, Value.null, Value.null, Value.null, .int 0, .int 0, .int 0, .int 0, .int 0, .int 0, .int 0, .int 0, .int 0, .int 0, .int 0, .int 0, .int 0] G) (b + d + 4) H _ := hG
  refine lv_aload_n hx hb dX2_init_28 rfl (lv_at hl 0 rfl) ?_
  refine lv_bipush (v := 12) hx hb dX2_init_29 (by decide) ?_
  refine g_newa hF hG (ty := .int) rfl q538 (cA := g.2.1 0) 0 rfl (fun _ q => by cases q) (i := 12) (N := 12) (a0 := (12, .inl (fun _ => 0))) (fun _ => rfl) (by decide) (by decide) (by decide) (by rw [hF.2.2.2.2]; exact Nat.le_of_ble_eq_true rfl) (by rw [hF.2.2.2.2]; exact Nat.le_of_ble_eq_true rfl) dX2_init_31 (fun H hG => ?_)
  rw [show gU (pG g.2.1 b d u sc 3 [Value.null, .ref (b + d + 1), .ref (b + d + 2), .ref (b + d + 3), Value.null, Value.null, Value.null, Value.null, Value.null, Value.null, Value.null, Value.null, Value.null, .int 0, .int 0, .int 0, .int 0, .int 0, .int 0, .int 0, .int 0, .int 0, .int 0, .int 0, .int 0, .int 0] G) (b + d + 4) (.inl (g.2.1 0, 12, .inl (fun _ => 0))) = pG g.2.1 b d u sc 4 [Value.null, .ref (b + d + 1), .ref (b + d + 2), .ref (b + d + 3), Value.null, Value.null, Value.null, Value.null, Value.null, Value.null, Value.null, Value.null, Value.null, .int 0, .int 0, .int 0, .int 0, .int 0, .int 0, .int 0, .int 0, .int 0, .int 0, .int 0, .int 0, .int 0] G from pG_new] at hG
  have hG : gJK g L0 A s.heap (pG g.2.1 b d u sc 4 [Value.null, .ref (b + d + 1), .ref (b + d + 2), .ref (b + d + 3), Value.null, Value.null, Value.null, Value.null, Value.null, Value.null, Value.null, Value.null, Value.null, .int 0, .int 0, .int 0, .int 0, .int 0, .int 0, .int 0, .int 0, .int 0, .int 0, .int 0, .int 0, .int 0] G) (b + d + 5) H _ := hG
  refine g_putF hF hG pG_0 hL (C := RX2) (T := TX2) (N := 26) rfl in_X2 tyX2 tyX2_ok nmX2 4 (by decide) q597 (fun _ h => h) rfl (hin rfl) rfl (by first | rfl | decide) rfl (Nat.le_of_ble_eq_true rfl) dX2_init_33 (fun H locs hG => ?_)
  rw [pG_set] at hG
  have hG : gJK g L0 A s.heap (pG g.2.1 b d u sc 4 [Value.null, .ref (b + d + 1), .ref (b + d + 2), .ref (b + d + 3), .ref (b + d + 4), Value.null, Value.null, Value.null, Value.null, Value.null, Value.null, Value.null, Value.null, .int 0, .int 0, .int 0, .int 0, .int 0, .int 0, .int 0, .int 0, .int 0, .int 0, .int 0, .int 0, .int 0] G) (b + d + 5) H _ := hG
  refine lv_aload_n hx hb dX2_init_36 rfl (lv_at hl 0 rfl) ?_
  refine lv_bipush (v := 12) hx hb dX2_init_37 (by decide) ?_
  refine g_newa hF hG (ty := .int) rfl q538 (cA := g.2.1 0) 0 rfl (fun _ q => by cases q) (i := 12) (N := 12) (a0 := (12, .inl (fun _ => 0))) (fun _ => rfl) (by decide) (by decide) (by decide) (by rw [hF.2.2.2.2]; exact Nat.le_of_ble_eq_true rfl) (by rw [hF.2.2.2.2]; exact Nat.le_of_ble_eq_true rfl) dX2_init_39 (fun H hG => ?_)
  rw [show gU (pG g.2.1 b d u sc 4 [Value.null, .ref (b + d + 1), .ref (b + d + 2), .ref (b + d + 3), .ref (b + d + 4), Value.null, Value.null, Value.null, Value.null, Value.null, Value.null, Value.null, Value.null, .int 0, .int 0, .int 0, .int 0, .int 0, .int 0, .int 0, .int 0, .int 0, .int 0, .int 0, .int 0, .int 0] G) (b + d + 5) (.inl (g.2.1 0, 12, .inl (fun _ => 0))) = pG g.2.1 b d u sc 5 [Value.null, .ref (b + d + 1), .ref (b + d + 2), .ref (b + d + 3), .ref (b + d + 4), Value.null, Value.null, Value.null, Value.null, Value.null, Value.null, Value.null, Value.null, .int 0, .int 0, .int 0, .int 0, .int 0, .int 0, .int 0, .int 0, .int 0, .int 0, .int 0, .int 0, .int 0] G from pG_new] at hG
  have hG : gJK g L0 A s.heap (pG g.2.1 b d u sc 5 [Value.null, .ref (b + d + 1), .ref (b + d + 2), .ref (b + d + 3), .ref (b + d + 4), Value.null, Value.null, Value.null, Value.null, Value.null, Value.null, Value.null, Value.null, .int 0, .int 0, .int 0, .int 0, .int 0, .int 0, .int 0, .int 0, .int 0, .int 0, .int 0, .int 0, .int 0] G) (b + d + 6) H _ := hG
  refine g_putF hF hG pG_0 hL (C := RX2) (T := TX2) (N := 26) rfl in_X2 tyX2 tyX2_ok nmX2 5 (by decide) q599 (fun _ h => h) rfl (hin rfl) rfl (by first | rfl | decide) rfl (Nat.le_of_ble_eq_true rfl) dX2_init_41 (fun H locs hG => ?_)
  rw [pG_set] at hG
  have hG : gJK g L0 A s.heap (pG g.2.1 b d u sc 5 [Value.null, .ref (b + d + 1), .ref (b + d + 2), .ref (b + d + 3), .ref (b + d + 4), .ref (b + d + 5), Value.null, Value.null, Value.null, Value.null, Value.null, Value.null, Value.null, .int 0, .int 0, .int 0, .int 0, .int 0, .int 0, .int 0, .int 0, .int 0, .int 0, .int 0, .int 0, .int 0] G) (b + d + 6) H _ := hG
  refine lv_aload_n hx hb dX2_init_44 rfl (lv_at hl 0 rfl) ?_
  refine lv_bipush (v := 12) hx hb dX2_init_45 (by decide) ?_
  refine g_newa hF hG (ty := .int) rfl q538 (cA := g.2.1 0) 0 rfl (fun _ q => by cases q) (i := 12) (N := 12) (a0 := (12, .inl (fun _ => 0))) (fun _ => rfl) (by decide) (by decide) (by decide) (by rw [hF.2.2.2.2]; exact Nat.le_of_ble_eq_true rfl) (by rw [hF.2.2.2.2]; exact Nat.le_of_ble_eq_true rfl) dX2_init_47 (fun H hG => ?_)
  rw [show gU (pG g.2.1 b d u sc 5 [Value.null, .ref (b + d + 1), .ref (b + d + 2), .ref (b + d + 3), .ref (b + d + 4), .ref (b + d + 5), Value.null, Value.null, Value.null, Value.null, Value.null, Value.null, Value.null, .int 0, .int 0, .int 0, .int 0, .int 0, .int 0, .int 0, .int 0, .int 0, .int 0, .int 0, .int 0, .int 0] G) (b + d + 6) (.inl (g.2.1 0, 12, .inl (fun _ => 0))) = pG g.2.1 b d u sc 6 [Value.null, .ref (b + d + 1), .ref (b + d + 2), .ref (b + d + 3), .ref (b + d + 4), .ref (b + d + 5), Value.null, Value.null, Value.null, Value.null, Value.null, Value.null, Value.null, .int 0, .int 0, .int 0, .int 0, .int 0, .int 0, .int 0, .int 0, .int 0, .int 0, .int 0, .int 0, .int 0] G from pG_new] at hG
  have hG : gJK g L0 A s.heap (pG g.2.1 b d u sc 6 [Value.null, .ref (b + d + 1), .ref (b + d + 2), .ref (b + d + 3), .ref (b + d + 4), .ref (b + d + 5), Value.null, Value.null, Value.null, Value.null, Value.null, Value.null, Value.null, .int 0, .int 0, .int 0, .int 0, .int 0, .int 0, .int 0, .int 0, .int 0, .int 0, .int 0, .int 0, .int 0] G) (b + d + 7) H _ := hG
  refine g_putF hF hG pG_0 hL (C := RX2) (T := TX2) (N := 26) rfl in_X2 tyX2 tyX2_ok nmX2 6 (by decide) q600 (fun _ h => h) rfl (hin rfl) rfl (by first | rfl | decide) rfl (Nat.le_of_ble_eq_true rfl) dX2_init_49 (fun H locs hG => ?_)
  rw [pG_set] at hG
  have hG : gJK g L0 A s.heap (pG g.2.1 b d u sc 6 [Value.null, .ref (b + d + 1), .ref (b + d + 2), .ref (b + d + 3), .ref (b + d + 4), .ref (b + d + 5), .ref (b + d + 6), Value.null, Value.null, Value.null, Value.null, Value.null, Value.null, .int 0, .int 0, .int 0, .int 0, .int 0, .int 0, .int 0, .int 0, .int 0, .int 0, .int 0, .int 0, .int 0] G) (b + d + 7) H _ := hG
  refine lv_aload_n hx hb dX2_init_52 rfl (lv_at hl 0 rfl) ?_
  refine lv_bipush (v := 12) hx hb dX2_init_53 (by decide) ?_
  refine g_newa hF hG (ty := .int) rfl q538 (cA := g.2.1 0) 0 rfl (fun _ q => by cases q) (i := 12) (N := 12) (a0 := (12, .inl (fun _ => 0))) (fun _ => rfl) (by decide) (by decide) (by decide) (by rw [hF.2.2.2.2]; exact Nat.le_of_ble_eq_true rfl) (by rw [hF.2.2.2.2]; exact Nat.le_of_ble_eq_true rfl) dX2_init_55 (fun H hG => ?_)
  rw [show gU (pG g.2.1 b d u sc 6 [Value.null, .ref (b + d + 1), .ref (b + d + 2), .ref (b + d + 3), .ref (b + d + 4), .ref (b + d + 5), .ref (b + d + 6), Value.null, Value.null, Value.null, Value.null, Value.null, Value.null, .int 0, .int 0, .int 0, .int 0, .int 0, .int 0, .int 0, .int 0, .int 0, .int 0, .int 0, .int 0, .int 0] G) (b + d + 7) (.inl (g.2.1 0, 12, .inl (fun _ => 0))) = pG g.2.1 b d u sc 7 [Value.null, .ref (b + d + 1), .ref (b + d + 2), .ref (b + d + 3), .ref (b + d + 4), .ref (b + d + 5), .ref (b + d + 6), Value.null, Value.null, Value.null, Value.null, Value.null, Value.null, .int 0, .int 0, .int 0, .int 0, .int 0, .int 0, .int 0, .int 0, .int 0, .int 0, .int 0, .int 0, .int 0] G from pG_new] at hG
  have hG : gJK g L0 A s.heap (pG g.2.1 b d u sc 7 [Value.null, .ref (b + d + 1), .ref (b + d + 2), .ref (b + d + 3), .ref (b + d + 4), .ref (b + d + 5), .ref (b + d + 6), Value.null, Value.null, Value.null, Value.null, Value.null, Value.null, .int 0, .int 0, .int 0, .int 0, .int 0, .int 0, .int 0, .int 0, .int 0, .int 0, .int 0, .int 0, .int 0] G) (b + d + 8) H _ := hG
  refine g_putF hF hG pG_0 hL (C := RX2) (T := TX2) (N := 26) rfl in_X2 tyX2 tyX2_ok nmX2 7 (by decide) q602 (fun _ h => h) rfl (hin rfl) rfl (by first | rfl | decide) rfl (Nat.le_of_ble_eq_true rfl) dX2_init_57 (fun H locs hG => ?_)
  rw [pG_set] at hG
  have hG : gJK g L0 A s.heap (pG g.2.1 b d u sc 7 [Value.null, .ref (b + d + 1), .ref (b + d + 2), .ref (b + d + 3), .ref (b + d + 4), .ref (b + d + 5), .ref (b + d + 6), .ref (b + d + 7), Value.null, Value.null, Value.null, Value.null, Value.null, .int 0, .int 0, .int 0, .int 0, .int 0, .int 0, .int 0, .int 0, .int 0, .int 0, .int 0, .int 0, .int 0] G) (b + d + 8) H _ := hG
  refine lv_aload_n hx hb dX2_init_60 rfl (lv_at hl 0 rfl) ?_
  refine lv_bipush (v := 12) hx hb dX2_init_61 (by decide) ?_
  refine g_newa hF hG (ty := .int) rfl q538 (cA := g.2.1 0) 0 rfl (fun _ q => by cases q) (i := 12) (N := 12) (a0 := (12, .inl (fun _ => 0))) (fun _ => rfl) (by decide) (by decide) (by decide) (by rw [hF.2.2.2.2]; exact Nat.le_of_ble_eq_true rfl) (by rw [hF.2.2.2.2]; exact Nat.le_of_ble_eq_true rfl) dX2_init_63 (fun H hG => ?_)
  rw [show gU (pG g.2.1 b d u sc 7 [Value.null, .ref (b + d + 1), .ref (b + d + 2), .ref (b + d + 3), .ref (b + d + 4), .ref (b + d + 5), .ref (b + d + 6), .ref (b + d + 7), Value.null, Value.null, Value.null, Value.null, Value.null, .int 0, .int 0, .int 0, .int 0, .int 0, .int 0, .int 0, .int 0, .int 0, .int 0, .int 0, .int 0, .int 0] G) (b + d + 8) (.inl (g.2.1 0, 12, .inl (fun _ => 0))) = pG g.2.1 b d u sc 8 [Value.null, .ref (b + d + 1), .ref (b + d + 2), .ref (b + d + 3), .ref (b + d + 4), .ref (b + d + 5), .ref (b + d + 6), .ref (b + d + 7), Value.null, Value.null, Value.null, Value.null, Value.null, .int 0, .int 0, .int 0, .int 0, .int 0, .int 0, .int 0, .int 0, .int 0, .int 0, .int 0, .int 0, .int 0] G from pG_new] at hG
  have hG : gJK g L0 A s.heap (pG g.2.1 b d u sc 8 [Value.null, .ref (b + d + 1), .ref (b + d + 2), .ref (b + d + 3), .ref (b + d + 4), .ref (b + d + 5), .ref (b + d + 6), .ref (b + d + 7), Value.null, Value.null, Value.null, Value.null, Value.null, .int 0, .int 0, .int 0, .int 0, .int 0, .int 0, .int 0, .int 0, .int 0, .int 0, .int 0, .int 0, .int 0] G) (b + d + 9) H _ := hG
  refine g_putF hF hG pG_0 hL (C := RX2) (T := TX2) (N := 26) rfl in_X2 tyX2 tyX2_ok nmX2 8 (by decide) q604 (fun _ h => h) rfl (hin rfl) rfl (by first | rfl | decide) rfl (Nat.le_of_ble_eq_true rfl) dX2_init_65 (fun H locs hG => ?_)
  rw [pG_set] at hG
  have hG : gJK g L0 A s.heap (pG g.2.1 b d u sc 8 [Value.null, .ref (b + d + 1), .ref (b + d + 2), .ref (b + d + 3), .ref (b + d + 4), .ref (b + d + 5), .ref (b + d + 6), .ref (b + d + 7), .ref (b + d + 8), Value.null, Value.null, Value.null, Value.null, .int 0, .int 0, .int 0, .int 0, .int 0, .int 0, .int 0, .int 0, .int 0, .int 0, .int 0, .int 0, .int 0] G) (b + d + 9) H _ := hG
  refine lv_aload_n hx hb dX2_init_68 rfl (lv_at hl 0 rfl) ?_
  refine g_newo q543 q545 hF hG (by omega) hl (Nat.le_of_ble_eq_true rfl) (Nat.le_of_ble_eq_true rfl) ⟨Nat.le_of_ble_eq_true rfl, Nat.le_of_ble_eq_true rfl⟩ (Nat.le_of_ble_eq_true rfl) dX2_init_69 dX2_init_72 dX2_init_73 (fun H locs hG => ?_)
  rw [show gU (gU (pG g.2.1 b d u sc 8 [Value.null, .ref (b + d + 1), .ref (b + d + 2), .ref (b + d + 3), .ref (b + d + 4), .ref (b + d + 5), .ref (b + d + 6), .ref (b + d + 7), .ref (b + d + 8), Value.null, Value.null, Value.null, Value.null, .int 0, .int 0, .int 0, .int 0, .int 0, .int 0, .int 0, .int 0, .int 0, .int 0, .int 0, .int 0, .int 0] G) (b + d + 9) (.inr (3, [.ref (b + d + 9 + 1), .int 0]))) (b + d + 9 + 1) (.inl (g.2.1 0, 12, .inl (fun _ => 0))) = pG g.2.1 b d u sc 10 [Value.null, .ref (b + d + 1), .ref (b + d + 2), .ref (b + d + 3), .ref (b + d + 4), .ref (b + d + 5), .ref (b + d + 6), .ref (b + d + 7), .ref (b + d + 8), Value.null, Value.null, Value.null, Value.null, .int 0, .int 0, .int 0, .int 0, .int 0, .int 0, .int 0, .int 0, .int 0, .int 0, .int 0, .int 0, .int 0] G from pG_new2] at hG
  have hG : gJK g L0 A s.heap (pG g.2.1 b d u sc 10 [Value.null, .ref (b + d + 1), .ref (b + d + 2), .ref (b + d + 3), .ref (b + d + 4), .ref (b + d + 5), .ref (b + d + 6), .ref (b + d + 7), .ref (b + d + 8), Value.null, Value.null, Value.null, Value.null, .int 0, .int 0, .int 0, .int 0, .int 0, .int 0, .int 0, .int 0, .int 0, .int 0, .int 0, .int 0, .int 0] G) (b + d + 11) H _ := hG
  refine g_putF hF hG pG_0 hL (C := RX2) (T := TX2) (N := 26) rfl in_X2 tyX2 tyX2_ok nmX2 10 (by decide) q608 (fun _ h => h) rfl (hin rfl) rfl (by first | rfl | decide) rfl (Nat.le_of_ble_eq_true rfl) dX2_init_76 (fun H locs hG => ?_)
  rw [pG_set] at hG
  have hG : gJK g L0 A s.heap (pG g.2.1 b d u sc 10 [Value.null, .ref (b + d + 1), .ref (b + d + 2), .ref (b + d + 3), .ref (b + d + 4), .ref (b + d + 5), .ref (b + d + 6), .ref (b + d + 7), .ref (b + d + 8), Value.null, .ref (b + d + 9), Value.null, Value.null, .int 0, .int 0, .int 0, .int 0, .int 0, .int 0, .int 0, .int 0, .int 0, .int 0, .int 0, .int 0, .int 0] G) (b + d + 11) H _ := hG
  refine lv_aload_n hx hb dX2_init_79 rfl (lv_at hl 0 rfl) ?_
  refine g_newo q543 q545 hF hG (by omega) hl (Nat.le_of_ble_eq_true rfl) (Nat.le_of_ble_eq_true rfl) ⟨Nat.le_of_ble_eq_true rfl, Nat.le_of_ble_eq_true rfl⟩ (Nat.le_of_ble_eq_true rfl) dX2_init_80 dX2_init_83 dX2_init_84 (fun H locs hG => ?_)
  rw [show gU (gU (pG g.2.1 b d u sc 10 [Value.null, .ref (b + d + 1), .ref (b + d + 2), .ref (b + d + 3), .ref (b + d + 4), .ref (b + d + 5), .ref (b + d + 6), .ref (b + d + 7), .ref (b + d + 8), Value.null, .ref (b + d + 9), Value.null, Value.null, .int 0, .int 0, .int 0, .int 0, .int 0, .int 0, .int 0, .int 0, .int 0, .int 0, .int 0, .int 0, .int 0] G) (b + d + 11) (.inr (3, [.ref (b + d + 11 + 1), .int 0]))) (b + d + 11 + 1) (.inl (g.2.1 0, 12, .inl (fun _ => 0))) = pG g.2.1 b d u sc 12 [Value.null, .ref (b + d + 1), .ref (b + d + 2), .ref (b + d + 3), .ref (b + d + 4), .ref (b + d + 5), .ref (b + d + 6), .ref (b + d + 7), .ref (b + d + 8), Value.null, .ref (b + d + 9), Value.null, Value.null, .int 0, .int 0, .int 0, .int 0, .int 0, .int 0, .int 0, .int 0, .int 0, .int 0, .int 0, .int 0, .int 0] G from pG_new2] at hG
  have hG : gJK g L0 A s.heap (pG g.2.1 b d u sc 12 [Value.null, .ref (b + d + 1), .ref (b + d + 2), .ref (b + d + 3), .ref (b + d + 4), .ref (b + d + 5), .ref (b + d + 6), .ref (b + d + 7), .ref (b + d + 8), Value.null, .ref (b + d + 9), Value.null, Value.null, .int 0, .int 0, .int 0, .int 0, .int 0, .int 0, .int 0, .int 0, .int 0, .int 0, .int 0, .int 0, .int 0] G) (b + d + 13) H _ := hG
  refine g_putF hF hG pG_0 hL (C := RX2) (T := TX2) (N := 26) rfl in_X2 tyX2 tyX2_ok nmX2 11 (by decide) q610 (fun _ h => h) rfl (hin rfl) rfl (by first | rfl | decide) rfl (Nat.le_of_ble_eq_true rfl) dX2_init_87 (fun H locs hG => ?_)
  rw [pG_set] at hG
  have hG : gJK g L0 A s.heap (pG g.2.1 b d u sc 12 [Value.null, .ref (b + d + 1), .ref (b + d + 2), .ref (b + d + 3), .ref (b + d + 4), .ref (b + d + 5), .ref (b + d + 6), .ref (b + d + 7), .ref (b + d + 8), Value.null, .ref (b + d + 9), .ref (b + d + 11), Value.null, .int 0, .int 0, .int 0, .int 0, .int 0, .int 0, .int 0, .int 0, .int 0, .int 0, .int 0, .int 0, .int 0] G) (b + d + 13) H _ := hG
  refine lv_aload_n hx hb dX2_init_90 rfl (lv_at hl 0 rfl) ?_
  refine lv_bipush (v := 72) hx hb dX2_init_91 (by decide) ?_
  refine g_newa hF hG (ty := .int) rfl q538 (cA := g.2.1 0) 0 rfl (fun _ q => by cases q) (i := 72) (N := 72) (a0 := (72, .inl (fun _ => 0))) (fun _ => rfl) (by decide) (by decide) (by decide) (by rw [hF.2.2.2.2]; exact Nat.le_of_ble_eq_true rfl) (by rw [hF.2.2.2.2]; exact Nat.le_of_ble_eq_true rfl) dX2_init_93 (fun H hG => ?_)
  rw [show gU (pG g.2.1 b d u sc 12 [Value.null, .ref (b + d + 1), .ref (b + d + 2), .ref (b + d + 3), .ref (b + d + 4), .ref (b + d + 5), .ref (b + d + 6), .ref (b + d + 7), .ref (b + d + 8), Value.null, .ref (b + d + 9), .ref (b + d + 11), Value.null, .int 0, .int 0, .int 0, .int 0, .int 0, .int 0, .int 0, .int 0, .int 0, .int 0, .int 0, .int 0, .int 0] G) (b + d + 13) (.inl (g.2.1 0, 72, .inl (fun _ => 0))) = pG g.2.1 b d u sc 13 [Value.null, .ref (b + d + 1), .ref (b + d + 2), .ref (b + d + 3), .ref (b + d + 4), .ref (b + d + 5), .ref (b + d + 6), .ref (b + d + 7), .ref (b + d + 8), Value.null, .ref (b + d + 9), .ref (b + d + 11), Value.null, .int 0, .int 0, .int 0, .int 0, .int 0, .int 0, .int 0, .int 0, .int 0, .int 0, .int 0, .int 0, .int 0] G from pG_new] at hG
  have hG : gJK g L0 A s.heap (pG g.2.1 b d u sc 13 [Value.null, .ref (b + d + 1), .ref (b + d + 2), .ref (b + d + 3), .ref (b + d + 4), .ref (b + d + 5), .ref (b + d + 6), .ref (b + d + 7), .ref (b + d + 8), Value.null, .ref (b + d + 9), .ref (b + d + 11), Value.null, .int 0, .int 0, .int 0, .int 0, .int 0, .int 0, .int 0, .int 0, .int 0, .int 0, .int 0, .int 0, .int 0] G) (b + d + 14) H _ := hG
  refine g_putF hF hG pG_0 hL (C := RX2) (T := TX2) (N := 26) rfl in_X2 tyX2 tyX2_ok nmX2 12 (by decide) q611 (fun _ h => h) rfl (hin rfl) rfl (by first | rfl | decide) rfl (Nat.le_of_ble_eq_true rfl) dX2_init_95 (fun H locs hG => ?_)
  rw [pG_set] at hG
  have hG : gJK g L0 A s.heap (pG g.2.1 b d u sc 13 [Value.null, .ref (b + d + 1), .ref (b + d + 2), .ref (b + d + 3), .ref (b + d + 4), .ref (b + d + 5), .ref (b + d + 6), .ref (b + d + 7), .ref (b + d + 8), Value.null, .ref (b + d + 9), .ref (b + d + 11), .ref (b + d + 13), .int 0, .int 0, .int 0, .int 0, .int 0, .int 0, .int 0, .int 0, .int 0, .int 0, .int 0, .int 0, .int 0] G) (b + d + 14) H _ := hG
  refine lv_aload_n hx hb dX2_init_98 rfl (lv_at hl 0 rfl) ?_
  refine lv_aload_n hx hb dX2_init_99 rfl (lv_at hl 1 rfl) ?_
  refine g_putF hF hG pG_0 hL (C := RX2) (T := TX2) (N := 26) rfl in_X2 tyX2 tyX2_ok nmX2 0 (by decide) q589 (fun _ h => h) rfl (hin rfl) rfl (by first | rfl | decide) rfl (Nat.le_of_ble_eq_true rfl) dX2_init_100 (fun H locs hG => ?_)
  rw [pG_set] at hG
  have hG : gJK g L0 A s.heap (pG g.2.1 b d u sc 13 [.ref u, .ref (b + d + 1), .ref (b + d + 2), .ref (b + d + 3), .ref (b + d + 4), .ref (b + d + 5), .ref (b + d + 6), .ref (b + d + 7), .ref (b + d + 8), Value.null, .ref (b + d + 9), .ref (b + d + 11), .ref (b + d + 13), .int 0, .int 0, .int 0, .int 0, .int 0, .int 0, .int 0, .int 0, .int 0, .int 0, .int 0, .int 0, .int 0] G) (b + d + 14) H _ := hG
  refine lv_aload_n hx hb dX2_init_103 rfl (lv_at hl 0 rfl) ?_
  refine g_new hF hG in_X5 tyX5 tyX5_ok q560 q561 q105 (ci := 4) rfl (fs := [Value.null, Value.null, Value.null, .int 0, Value.null]) (by decide) (by rw [hF.2.2.2.2]; exact Nat.le_of_ble_eq_true rfl) (by rw [hF.2.2.2.2]; exact Nat.le_of_ble_eq_true rfl) dX2_init_104 (fun H hG => ?_)
  refine lv_dup hx hb dX2_init_107 rfl ?_
  refine lv_aload_n hx hb dX2_init_108 rfl (lv_at hl 1 rfl) ?_
  refine g_getN hF hG ((gU_n (by omega)).trans ((pG_out ⟨hub.1, by omega⟩).trans hu)) (C := RX3) (T := TX3) (N := 10) rfl in_X3 3 (by decide) q499 (fun _ h => h) (v := .ref sc.1) hsc dX2_init_109 ?_
  refine g_callI hF hG hl (w_X5_init (g := g) (l := l) (L0 := L0) (sz := b + d + 15) (a := b + d + 14) (sr := sc.1) (many := 0) gU_s (by omega) (by omega) rfl) (cwI 1 hF.1.2.2.2.2 (lw_meth q564) rfl rfl rfl (hF.1.2.2.2.2 _ q105) (hF.1.2.2.2.2 _ q562) (hF.1.2.2.2.2 _ q563) rfl (by decide +kernel) (g_room hF (Nat.le_of_ble_eq_true rfl) (Nat.le_of_ble_eq_true rfl))) (As := [.ref sc.1]) rfl rfl (Nat.le_of_ble_eq_true rfl) dX2_init_112 ⟨(by rw [hF.2.2.2.2]; exact Nat.le_of_ble_eq_true rfl), (by rw [hF.2.2.2.2]; exact Nat.le_of_ble_eq_true rfl)⟩ (fun v0 G1 n1 H locs hR hG => ?_)
  obtain ⟨rfl, hg1, hn1⟩ := hR
  rw [hg1, hn1, gU_ov] at hG
  rw [show gU (gU (gU (gU (pG g.2.1 b d u sc 13 [.ref u, .ref (b + d + 1), .ref (b + d + 2), .ref (b + d + 3), .ref (b + d + 4), .ref (b + d + 5), .ref (b + d + 6), .ref (b + d + 7), .ref (b + d + 8), Value.null, .ref (b + d + 9), .ref (b + d + 11), .ref (b + d + 13), .int 0, .int 0, .int 0, .int 0, .int 0, .int 0, .int 0, .int 0, .int 0, .int 0, .int 0, .int 0, .int 0] G) (b + d + 14) (.inr (4, [.ref (b + d + 15), .ref (b + d + 15 + 1), .ref (b + d + 15 + 2), .int 0, .ref sc.1]))) (b + d + 15) (.inl (g.2.1 0, 72, .inl (fun _ => 0)))) (b + d + 15 + 1) (.inl (g.2.1 0, 6, .inl (fun _ => 0)))) (b + d + 15 + 2) (.inl (g.2.1 0, 6, .inl (fun _ => 0))) = pG g.2.1 b d u sc 17 [.ref u, .ref (b + d + 1), .ref (b + d + 2), .ref (b + d + 3), .ref (b + d + 4), .ref (b + d + 5), .ref (b + d + 6), .ref (b + d + 7), .ref (b + d + 8), Value.null, .ref (b + d + 9), .ref (b + d + 11), .ref (b + d + 13), .int 0, .int 0, .int 0, .int 0, .int 0, .int 0, .int 0, .int 0, .int 0, .int 0, .int 0, .int 0, .int 0] G from pG_new4] at hG
  have hG : gJK g L0 A s.heap (pG g.2.1 b d u sc 17 [.ref u, .ref (b + d + 1), .ref (b + d + 2), .ref (b + d + 3), .ref (b + d + 4), .ref (b + d + 5), .ref (b + d + 6), .ref (b + d + 7), .ref (b + d + 8), Value.null, .ref (b + d + 9), .ref (b + d + 11), .ref (b + d + 13), .int 0, .int 0, .int 0, .int 0, .int 0, .int 0, .int 0, .int 0, .int 0, .int 0, .int 0, .int 0, .int 0] G) (b + d + 18) H _ := hG
  refine g_putF hF hG pG_0 hL (C := RX2) (T := TX2) (N := 26) rfl in_X2 tyX2 tyX2_ok nmX2 9 (by decide) q606 (fun _ h => h) rfl (hin rfl) rfl (by first | rfl | decide) rfl (Nat.le_of_ble_eq_true rfl) dX2_init_115 (fun H locs hG => ?_)
  rw [pG_set] at hG
  have hG : gJK g L0 A s.heap (pG g.2.1 b d u sc 17 [.ref u, .ref (b + d + 1), .ref (b + d + 2), .ref (b + d + 3), .ref (b + d + 4), .ref (b + d + 5), .ref (b + d + 6), .ref (b + d + 7), .ref (b + d + 8), .ref (b + d + 14), .ref (b + d + 9), .ref (b + d + 11), .ref (b + d + 13), .int 0, .int 0, .int 0, .int 0, .int 0, .int 0, .int 0, .int 0, .int 0, .int 0, .int 0, .int 0, .int 0] G) (b + d + 18) H _ := hG
  exact g_vret hQ hG ⟨rfl, pG_fin, rfl⟩ (Nat.le_of_ble_eq_true rfl) (Nat.le_of_ble_eq_true rfl) dX2_init_118
