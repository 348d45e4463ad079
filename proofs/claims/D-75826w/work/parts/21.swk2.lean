/-! Order.become on the State's block: learned from present -/
section SWK2
variable {p : Program} {l : Launch} {e : Env} {R : Room} {s : State} {m : MethodId} {args : Array Value} {below : List Frame} {meth : Method} {c : Code} {H : Heap} {locs : List Loc} {cells slots : Nat} {Q : State → Prop}
variable {cc : ByteArray} {pc : Nat} {ls : Array Slot} {rest : List Value} {A : Nat → Prop} {L0 n nL : Nat} {g : gNum} {own : String} {rm : Room} {γ : Type} {o : γ} {lv : List (Nat × Value)}
variable {b d : Nat} {sc : SC} {su : SU} {σ : SS} {G0 G : GH} {i : Int32} {index : Nat}
theorem j_become_of {a o ra ro : Nat} {many mo : Int32} {f fo : Nat → Int32} : j_X4_become a o ra many f ro mo fo = some (mo, va_cpy fo f 0 0 12) := by
  unfold j_X4_become cpF
  rw [if_neg (by decide)]
  rfl
theorem ks_become (hq : (Cond.methodLink own index yX4_become) ∈ lw_all) (hF : gXK p m c cc nL s args own g A R rm) (hL0 : L0 ≤ b) {u : Nat} (hG : gJK g L0 A s.heap (sG g.2.1 b d u sc σ G0) n H locs) (hl : lv_has ls nL lv) (r1 : 1 + 1 ≤ rm.frames) (r2 : 8 + (2 + 11) + 79 ≤ rm.locals) {f : SS → Option γ} (h : nm (S_sf (S_sA σ 10 (va_cpy (σ.2 12) (σ.2 10) 0 0 12)) 30 (σ.1 31)) f = some o) (hc : cells ≤ rm.cells ∧ slots ≤ rm.slots) (hW : (rest.map fun v => v.category).sum ≤ 8) (hdg : decode cc pc = .ok (.invokevirtual index, 3))
    (kk : ∀ (σ' : SS) (H1 : Heap) (locs1 : List Loc), f σ' = some o → gJK g L0 A s.heap (sG g.2.1 b d u sc σ' G0) n H1 locs1 → W p l e R s m args below meth c H1 locs1 cells slots Q (F0 m (pc + 3) ls rest)) : W p l e R s m args below meth c H locs cells slots Q (F0 m pc ls (.ref (b + d + 11) :: .ref (b + d + 9) :: rest)) := by
  refine g_callV hF hG hl sG_9 (C := RX4) (T := TX4) (N := 2) rfl (w_X4_become (g := g) (l := l) (L0 := L0) (sz := n) (a := b + d + 9) (o := b + d + 11) (ra := b + d + 10) (ro := b + d + 12) sG_9 (sG_arr (by decide)) sG_11 (sG_arr (by decide)) (by omega) (by omega) (by omega) (by omega) j_become_of) (cwV 1 hF.1.2.2.2.2 (lw_V hq q969 q970 q104 q971) rfl rfl rfl (by decide +kernel) (g_room hF r1 r2)) rfl rfl hW hdg (hf0 hF.2.2.2.2 hc) (fun v G1 n1 H1 locs1 hR hG1 => ?_)
  obtain ⟨rfl, h2, h3⟩ := hR
  rw [h2, h3] at hG1
  rw [gU_sw (by omega), show gU (sG g.2.1 b d u sc σ G0) (b + d + 10) (.inl (g.2.1 0, 12, .inl (va_cpy (σ.2 12) (σ.2 10) 0 0 12))) = sG g.2.1 b d u sc (S_sA σ 10 (va_cpy (σ.2 12) (σ.2 10) 0 0 12)) G0 from sG_sA (by decide), show gU (sG g.2.1 b d u sc (S_sA σ 10 (va_cpy (σ.2 12) (σ.2 10) 0 0 12)) G0) (b + d + 9) (.inr (3, [.ref (b + d + 10), .int (σ.1 31)])) = sG g.2.1 b d u sc (S_sf (S_sA σ 10 (va_cpy (σ.2 12) (σ.2 10) 0 0 12)) 30 (σ.1 31)) G0 from sG_sf9] at hG1
  exact kk _ H1 locs1 h hG1
end SWK2
