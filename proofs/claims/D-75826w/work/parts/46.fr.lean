/-! FRAME: a call that knows of the cells Gs alone leaves the others of G -/
def frG (L0 : Nat) (Gs G G' : GH) : GH := fun a => match G' a with | some e => some e | none => if L0 ≤ a ∧ Gs a = none then G a else none
section FR
variable {p : Program} {l : Launch} {e : Env} {R : Room} {s : State} {m : MethodId} {args : Array Value} {below : List Frame} {meth : Method} {c : Code} {H : Heap} {locs : List Loc} {cells slots : Nat} {Q : State → Prop}
variable {cc : ByteArray} {pc : Nat} {ls : Array Slot} {rest : List Value} {D : va_G} {cl : List vw_C} {A : Nat → Prop} {a : Nat} {L0 n nL : Nat} {G Gs G' : GH} {mc ms : Nat} {RR : Option Value → GH → Nat → Prop} {RT : String → Addr → GH → Prop}
theorem frG_new {a : Nat} {e : va_E} (h : G' a = some e) : frG L0 Gs G G' a = some e := by
  unfold frG
  rw [h]
theorem frG_old {a : Nat} {e : va_E} (h : G' a = none) (hL : L0 ≤ a) (hs : Gs a = none) (hG : G a = some e) : frG L0 Gs G G' a = some e := by
  unfold frG
  rw [h]
  show (if L0 ≤ a ∧ Gs a = none then G a else none) = some e
  rw [if_pos ⟨hL, hs⟩, hG]
theorem fr_key (hG : gJ D cl L0 A s.heap G n H locs) (hGs : gx Gs G) {st₀ t T' : State} {L : List Loc} (h0 : st₀.heap = H) (e1 : T'.heap = t.heap) (hL : ∀ q ∈ L, gA L0 Gs n q.base) (hF : va_F (gA L0 Gs n) st₀ t) (hat : ∀ a e, G' a = some e → va_at D cl (a, e) t.heap ∧ (L0 ≤ a → gA L0 Gs n a)) : gJ D cl L0 A s.heap (frG L0 Gs G G') t.heap.size T'.heap (locs ++ L) := by
  obtain ⟨hz, hk⟩ := hF
  rw [h0] at hz hk
  obtain ⟨q1, q2, q3, q4, q5⟩ := hG
  have hsub : ∀ q, gA L0 Gs n q → A q := fun q hq => by
    rcases hq with ⟨h5, e5, h6⟩ | h5
    · exact q2 q e5 (hGs _ _ h6) h5
    · exact q4 q (Nat.le_trans q3.1 (by rw [q5]; exact h5))
  rw [e1]
  have hcase : ∀ b e', frG L0 Gs G G' b = some e' → G' b = some e' ∨ (G' b = none ∧ L0 ≤ b ∧ Gs b = none ∧ G b = some e') := by
    intro b e' hb
    unfold frG at hb
    cases hc : G' b with
    | some x => rw [hc] at hb; exact Or.inl hb
    | none =>
      rw [hc] at hb
      have hb : (if L0 ≤ b ∧ Gs b = none then G b else none) = some e' := hb
      by_cases hc2 : L0 ≤ b ∧ Gs b = none
      · rw [if_pos hc2] at hb
        exact Or.inr ⟨rfl, hc2.1, hc2.2, hb⟩
      · rw [if_neg hc2] at hb
        cases hb
  have hkeep : ∀ b e', Gs b = none → G b = some e' → t.heap[b]? = H[b]? := fun b e' h1 h2 => by
    have hlt : b < H.size := (q1 b e' h2).lt
    refine hk b hlt (fun hA => ?_)
    rcases hA with ⟨-, e5, h6⟩ | h5
    · rw [h1] at h6; cases h6
    · rw [← q5] at h5; omega
  refine ⟨fun b e' hb => ?_, fun b e' hb hl => ?_, ⟨Nat.le_trans q3.1 hz, fun q h1 h2 => ?_, fun q hq => ?_⟩, q4, rfl⟩
  · rcases hcase b e' hb with h | ⟨-, -, h1, h2⟩
    · exact (hat b e' h).1
    · exact (q1 b e' h2).kept (hkeep b e' h1 h2)
  · rcases hcase b e' hb with h | ⟨-, -, h1, h2⟩
    · exact hsub b ((hat b e' h).2 hl)
    · exact q2 b e' h2 hl
  · rw [hk q (Nat.lt_of_lt_of_le h1 q3.1) (fun z => h2 (hsub q z))]
    exact q3.2.1 q h1 h2
  · rcases List.mem_append.mp hq with h | h
    · exact q3.2.2 q h
    · exact hsub _ (hL q h)
/-- a call that may throw, framed -/
theorem gx_callF {st0 : List Value} {aa : Array Value} (hr : vx_Run p l e R s m args below meth c H locs cells slots mc ms (F0 m pc ls st0) rest (gQc D cl L0 Gs n RR aa) (gXT D cl L0 Gs n RT) (gA L0 Gs n)) (hG : gJ D cl L0 A s.heap G n H locs) (hGs : gx Gs G)
    (kx : ∀ (E : String) (q : Addr) (ce : Cell) (G' : GH) (n' : Nat) (H' : Heap) (locs' : List Loc), RT E q G' → (∀ a, L0 ≤ a → a < n → Gs a = none → G' a = none) → gJ D cl L0 A s.heap (frG L0 Gs G G') n' H' locs' → H'[q]? = some ce → ce.vm = .none → s.vm.findClass E = some ce.cls → vx_W p l e R s m args below meth c H' locs' (cells + mc) (slots + ms) Q (F0 m pc ls rest) q)
    (kk : ∀ (v : Option Value) (G' : GH) (n' : Nat) (H' : Heap) (locs' : List Loc), RR v G' n' → (∀ a, L0 ≤ a → a < n → Gs a = none → G' a = none) → gJ D cl L0 A s.heap (frG L0 Gs G G') n' H' locs' → W p l e R s m args below meth c H' locs' (cells + mc) (slots + ms) Q (F0 m (pc + 3) ls (v.toList ++ rest))) : W p l e R s m args below meth c H locs cells slots Q (F0 m pc ls st0) := by
  intro T hT X
  have hno : ∀ (t : State) (G' : GH), (∀ a e, G' a = some e → va_at D cl (a, e) t.heap ∧ (L0 ≤ a → gA L0 Gs n a)) → ∀ a, L0 ≤ a → a < n → Gs a = none → G' a = none := by
    intro t G' hat a h1 h2 h3
    cases hc : G' a with
    | none => rfl
    | some x =>
      rcases (hat a x hc).2 h1 with ⟨-, e5, h6⟩ | h5
      · rw [h3] at h6; cases h6
      · omega
  rcases hr T hT X with ⟨v, st₀, t, T', L, h0, X', hL, e1, e2, ⟨⟨v', G', hv, hRR, hat⟩, hF⟩, st⟩ | ⟨q, st₀, t, T', L, E, ce, h0, X', hL, e1, e2, ⟨⟨G', hRT, hat⟩, hF⟩, hce, hcv, hcl, st⟩
  · cases hv
    obtain ⟨t2, a1, b1⟩ := kk v G' _ T'.heap (locs ++ L) hRR (hno t G' hat) (fr_key hG hGs h0 e1 hL hF hat) T' rfl X'
    exact ⟨t2, st t2 a1, b1⟩
  · obtain ⟨t2, a1, b1⟩ := kx E q ce G' _ T'.heap (locs ++ L) hRT (hno t G' hat) (fr_key hG hGs h0 e1 hL hF hat) (by rw [e1]; exact hce) hcv hcl T' rfl X'
    exact ⟨t2, st.trans a1, b1⟩
end FR
