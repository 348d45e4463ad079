/-! BlackoutStart: writes of its own fields, of its buffer -/
def x_put (iv by_ : Nat → Int32) (p0 : Int32) : Option ((Nat → Int32) × (Nat → Int32)) := ob2 (j_X1_put 0 p0 0 (iv 1) (iv 2) (iv 3) by_) fun f bu => some (upd iv 1 bu, f)
section X1Q
variable {p : Program} {l : Launch} {e : Env} {R : Room} {s : State} {m : MethodId} {args : Array Value} {below : List Frame} {meth : Method} {c : Code} {H : Heap} {locs : List Loc} {cells slots : Nat} {Q : State → Prop}
variable {cc : ByteArray} {pc : Nat} {ls : Array Slot} {rest : List Value} {A : Nat → Prop} {L0 n nL : Nat} {g : gNum} {own : String} {rm : Room} {γ : Type} {o : γ} {lv : List (Nat × Value)}
variable {b d x : Nat} {sc : SC} {su : SU} {σ : SS} {G0 G : GH} {i : Int32} {index : Nat}
variable {f : Nat → Option Nat} {h9 t9 : Int32} {Bs : List (BA × SS)} {S : Nat → Option (BA × SS)} {bb hd he sl : Nat} {iv by_ : Nat → Int32} {hi : List SS} {so : Nat → Option SS}
theorem xV_set {k : Nat} (hk : k = 1 ∨ k = 2 ∨ k = 3) {v : Int32} : (xV bb b hd sl iv).set k (.int v) = xV bb b hd sl (upd iv k v) := by
  rcases hk with rfl | rfl | rfl <;> rfl
theorem kx_putI (hF : gXK p m c cc nL s args own g A R rm) (o9 : XO g.2.1 L0 x (su, sc, σ, iv, by_, hi, so) b d G bb hd he sl f h9 t9 Bs S) (hG : gJK g L0 A s.heap (sG g.2.1 b d (su.1 0) sc σ G) n H locs) (k : Nat) (hk : k = 1 ∨ k = 2 ∨ k = 3) (hlink : (Cond.fieldLink own index RX1 (TX1 k).2.1 (TX1 k).2.2.1) ∈ lw_all) {v : Int32} {F : (Nat → Int32) → Option γ} (h : nm (upd iv k v) F = some o) (hdg : decode cc pc = .ok (.putfield index, 3))
    (kk : ∀ (iv' : Nat → Int32) (G1 : GH) (H1 : Heap) (locs1 : List Loc), F iv' = some o → XO g.2.1 L0 x (su, sc, σ, iv', by_, hi, so) b d G1 bb hd he sl f h9 t9 Bs S → gJK g L0 A s.heap (sG g.2.1 b d (su.1 0) sc σ G1) n H1 locs1 → W p l e R s m args below meth c H1 locs1 cells slots Q (F0 m (pc + 3) ls rest)) : W p l e R s m args below meth c H locs cells slots Q (F0 m pc ls (.int v :: .ref x :: rest)) := by
  rw [o9.use.1] at hG
  have hX : tyX1 k = .int ∧ (TX1 k).2.2.2 = false ∧ (TX1 k).1 = RX1 := by rcases hk with rfl | rfl | rfl <;> exact ⟨rfl, rfl, rfl⟩
  refine g_put hF hG o9.1.1 o9.2.1.1 (C := RX1) (T := TX1) (N := 7) rfl in_X1 tyX1 tyX1_ok nmX1 k (by omega) hlink (fun x h => by rw [hX.2.2] at h; exact h) hX.2.1 (by rw [hX.1]; rfl) (by rw [hX.1]; rfl) (by show k < 7; omega) hdg (fun H1 locs1 hG1 => ?_)
  have hh : hi = Bs.map (·.2) := o9.2.2.2.1
  have hs : ∀ i, so i = (S i).map (·.2) := o9.2.2.2.2.1
  have o2 := XB.toO (o9.toB.px (iv' := upd iv k v) (cu' := b)) hh hs
  rw [show (xV bb b hd sl iv).set k (.int v) = xV bb b hd sl (upd iv k v) from xV_set hk, ← o2.use.1] at hG1
  exact kk _ _ H1 locs1 h o2 hG1
theorem kx_put (hq : (Cond.methodLink own index yX1_put) ∈ lw_all) (hF : gXK p m c cc nL s args own g A R rm) (o9 : XO g.2.1 L0 x (su, sc, σ, iv, by_, hi, so) b d G bb hd he sl f h9 t9 Bs S) (hG : gJK g L0 A s.heap (sG g.2.1 b d (su.1 0) sc σ G) n H locs) (hl : lv_has ls nL lv) (r1 : 0 + 1 ≤ rm.frames) (r2 : 8 + (3 + 11) + 0 ≤ rm.locals) {F : (Nat → Int32) → (Nat → Int32) → Option γ} (h : ob2 (x_put iv by_ i) F = some o) (hc : cells ≤ rm.cells ∧ slots ≤ rm.slots) (hW : (rest.map fun v => v.category).sum ≤ 8) (hdg : decode cc pc = .ok (.invokevirtual index, 3))
    (kk : ∀ (iv' by' : Nat → Int32) (G1 : GH) (H1 : Heap) (locs1 : List Loc), F iv' by' = some o → XO g.2.1 L0 x (su, sc, σ, iv', by', hi, so) b d G1 bb hd he sl f h9 t9 Bs S → gJK g L0 A s.heap (sG g.2.1 b d (su.1 0) sc σ G1) n H1 locs1 → W p l e R s m args below meth c H1 locs1 cells slots Q (F0 m (pc + 3) ls rest)) : W p l e R s m args below meth c H locs cells slots Q (F0 m pc ls (.int i :: .ref x :: rest)) := by
  rw [o9.use.1] at hG
  obtain ⟨iv', by', hr, h⟩ := ob2_e h
  unfold x_put at hr
  obtain ⟨f1, bu, hr1, hr2⟩ := ob2_e hr
  cases hr2
  have hh : hi = Bs.map (·.2) := o9.2.2.2.1
  have hs : ∀ i, so i = (S i).map (·.2) := o9.2.2.2.2.1
  refine g_callV hF hG hl o9.1.1 (C := RX1) (T := TX1) (N := 7) rfl (w_X1_put (g := g) (l := l) (L0 := L0) (G := G) (sz := n) (x := x) (p0 := i) (bb := bb) o9.1.1 o9.1.2.1 o9.2.1.1 o9.2.1.2.1 hr1) (cwV 1 hF.1.2.2.2.2 (lw_V hq q1001 qs6 q82 q1002) rfl rfl rfl (by decide +kernel) (g_room hF r1 r2)) rfl rfl hW hdg (hf0 hF.2.2.2.2 hc) (fun v G1 n1 H1 locs1 hR hG1 => ?_)
  obtain ⟨rfl, h2, h3⟩ := hR
  have o2 := XB.toO ((o9.toB.px (iv' := upd iv 1 bu) (cu' := b)).pb (by' := by')) hh hs
  rw [h2, h3] at hG1
  have hG1 : gJK g L0 A s.heap (gU (gU G x (.inr (0, xV bb b hd sl (upd iv 1 bu)))) bb (.inl (g.2.1 1, 900, .inl by'))) n H1 locs1 := hG1
  rw [← o2.use.1] at hG1
  exact kk _ _ _ H1 locs1 h o2 hG1
end X1Q
