/-! rows for BlackoutStart's changes -/
section X1S
variable {p : Program} {l : Launch} {e : Env} {R : Room} {s : State} {m : MethodId} {args : Array Value} {below : List Frame} {meth : Method} {c : Code} {H : Heap} {locs : List Loc} {cells slots : Nat} {Q : State → Prop}
variable {cc : ByteArray} {pc : Nat} {ls : Array Slot} {rest : List Value} {A : Nat → Prop} {L0 n nL : Nat} {g : gNum} {own : String} {rm : Room} {γ : Type} {o : γ} {lv : List (Nat × Value)} {RR : Option Value → GH → Nat → Prop} {RT : String → Addr → GH → Prop} {mc ms : Nat} {ret : Option FieldType}
variable {b d x u : Nat} {sc : SC} {su : SU} {σ : SS} {G0 G : GH} {i : Int32} {index : Nat}
theorem s_putIN {host : String} (hF : gXK p m c cc nL s args own g A R rm) (hL0 : L0 ≤ b) (hG : gJK g L0 A s.heap (sG g.2.1 b d u sc σ G0) n H locs) (k : Nat) (hk : 13 ≤ k ∧ k ≤ 25) (hty : tyX2 k = .int ∧ (TX2 k).2.2.2 = false ∧ (TX2 k).1 = RX2) (hlink : (Cond.fieldLinkNest own index RX2 (TX2 k).2.1 (TX2 k).2.2.1 host) ∈ lw_tbl) {v : Int32} {f : SS → Option γ} (h : nm (S_sf σ k v) f = some o) (hdg : decode cc pc = .ok (.putfield index, 3))
    (kk : ∀ (σ' : SS) (H1 : Heap) (locs1 : List Loc), f σ' = some o → gJK g L0 A s.heap (sG g.2.1 b d u sc σ' G0) n H1 locs1 → W p l e R s m args below meth c H1 locs1 cells slots Q (F0 m (pc + 3) ls rest)) : W p l e R s m args below meth c H locs cells slots Q (F0 m pc ls (.int v :: .ref b :: rest)) := by
  refine g_putN hF hG sG_0 hL0 (C := RX2) (T := TX2) (N := 26) rfl in_X2 tyX2 tyX2_ok nmX2 k (by omega) hlink (fun x h => by rw [hty.2.2] at h; exact h) hty.2.1 (by rw [hty.1]; rfl) (by rw [hty.1]; rfl) (by show k < 26; omega) hdg (fun H1 locs1 hG1 => ?_)
  rw [sG_sf0 hk] at hG1
  exact kk _ H1 locs1 h hG1
theorem kx_change {f : Nat → Option Nat} {h9 t9 : Int32} {Bs : List (BA × SS)} {S : Nat → Option (BA × SS)} {bb hd he sl : Nat} {iv by_ : Nat → Int32} {hi : List SS} {so : Nat → Option SS} (hq : (Cond.methodLink own index yX1_change) ∈ lw_all) (hF : gXK p m c cc nL s args own g A R rm) (o9 : XO g.2.1 L0 x (su, sc, σ, iv, by_, hi, so) b d G bb hd he sl f h9 t9 Bs S) (hid : sG g.2.1 b d (su.1 0) sc σ G = G) (hfx : suAt b d G x (.inr (0, xV bb b hd sl iv))) (hG : gJK g L0 A s.heap (sG g.2.1 b d (su.1 0) sc σ G) n H locs) (hl : lv_has ls nL lv) (r1 : 6 + 1 ≤ rm.frames) (r2 : 8 + (2 + 11) + 180 ≤ rm.locals) {F : SS → Option γ} (h : gd (σ.1 25 = 0 ∨ σ.1 25 = 1) (nm (cpS σ) F) = some o) (hc : cells + 18 ≤ rm.cells ∧ slots + 311 ≤ rm.slots) (hW : (rest.map fun v => v.category).sum ≤ 8) (hdg : decode cc pc = .ok (.invokevirtual index, 3))
    (kk : ∀ (σ' : SS) (b1 d1 : Nat) (G1 : GH) (n1 : Nat) (H1 : Heap) (locs1 : List Loc), F σ' = some o → XW g.2.1 L0 x (su, sc, σ', iv, by_, xh hi σ, so) b1 d1 G1 → gJK g L0 A s.heap G1 n1 H1 locs1 → W p l e R s m args below meth c H1 locs1 (cells + 18) (slots + 311) Q (F0 m (pc + 3) ls (.ref b1 :: rest))) : W p l e R s m args below meth c H locs cells slots Q (F0 m pc ls (.ref x :: rest)) := by
  obtain ⟨hz, h⟩ := gd_e h
  rw [hid] at hG
  refine g_callV hF hG hl hfx.1 (C := RX1) (T := TX1) (N := 7) rfl (w_X1_change (sz := n) ⟨bb, hd, he, sl, f, h9, t9, Bs, S, o9⟩ hz) (cwV 0 hF.1.2.2.2.2 (lw_V hq q843 qs3 q82 q844) rfl rfl rfl (by decide +kernel) (g_room hF r1 r2)) rfl rfl hW hdg (hfA hF.2.2.2.2 hc) (fun v' G1 n1 H1 locs1 hR hG1 => ?_)
  obtain ⟨b1, rfl, hX⟩ := hR
  exact kk (cpS σ) b1 0 G1 n1 H1 locs1 h hX hG1
end X1S
