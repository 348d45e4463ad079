/-! new arrays of references -/
section NQ
variable {p : Program} {l : Launch} {e : Env} {R : Room} {s : State} {m : MethodId} {args : Array Value} {below : List Frame} {meth : Method} {c : Code} {H : Heap} {locs : List Loc} {cells slots : Nat} {Q : State → Prop}
variable {cc : ByteArray} {pc : Nat} {ls : Array Slot} {rest : List Value} {A : Nat → Prop} {a : Nat} {L0 n nL : Nat} {G : GH} {g : gNum} {own : String} {rm : Room}
theorem gX.aO (hF : gXK p m c cc nL s args own g A R rm) : va_AO "java/lang/Object" s := hF.2.2.2.1.2.2.2.1.1.1.1
theorem gX.aS (hF : gXK p m c cc nL s args own g A R rm) : va_AO "BlackoutStart$State" s := hF.2.2.2.1.2.2.2.1.1.1.2
theorem g_newq (hF : gXK p m c cc nL s args own g A R rm) (hG : gJK g L0 A s.heap G n H locs) {C : String} {index : Nat} (hcl : (Cond.classLink own index C) ∈ lw_all) (hAO : va_AO C s) {cA : ClassId} (t0 : Nat) (ht : (tyA g.2.1)[t0]? = some (cA, .object C)) {i : Int32} {N : Nat} (hn : ¬ i < 0) (hN : i.toNatClampNeg = N) (hbytes : N * 4 ≤ 536870912) (hcells : cells + 1 ≤ R.cells) (hslots : slots + N ≤ R.slots) (hdg : decode cc pc = .ok (.anewarray index, 3))
    (kk : ∀ (H1 : Heap), gJK g L0 A s.heap (gU G n (.inl (cA, N, .inr (.inr (.inr (.inr (fun _ => none))))))) (n + 1) H1 locs → W p l e R s m args below meth c H1 locs (cells + 1) (slots + N) Q (F0 m (pc + 3) ls (.ref n :: rest))) : W p l e R s m args below meth c H locs cells slots Q (F0 m pc ls (.int i :: rest)) := by
  subst hN
  refine W.anew hF.1.1 hF.1.2.1 hF.1.2.2.2.1 (hF.1.2.2.2.2 _ hcl) (va_AO.use hAO) rfl hdg rfl hn hbytes hcells hslots fun cB kA comp f1 f2 f3 f4 => ?_
  obtain ⟨kB, comp2, g1, g2, g3, g4⟩ := (hF.2.1.2 t0 _ ht).2
  have hcc : cB = cA := Option.some.inj (f1.symm.trans g4)
  subst hcc
  generalize hH1 : H.push ({ cls := cB, slots := Array.replicate i.toNatClampNeg .null, vm := .none } : Cell) = H1
  have hz : H.size = n := hG.2.2.2.2
  have z1 : H1.size = n + 1 := by rw [← hH1, Array.size_push, hz]
  have e1 : H1[n]? = some (arrV cB i.toNatClampNeg (fun _ => .null)) := by rw [← hH1, ← hz, Array.getElem?_push_size, ← arrV_new]
  have o1 : ∀ q : Nat, q < n → H1[q]? = H[q]? := fun q hq => by rw [← hH1, Array.getElem?_push, if_neg (by omega)]
  rw [hz]
  refine kk H1 (hG.new ?_ z1 o1)
  show H1[n]? = some (vp_cell _ _)
  rw [vp_cell_q]
  exact e1
end NQ
