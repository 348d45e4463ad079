/-! THE HISTORY's RING of 17: what the deque's members do with it -/
theorem dq_inc : ∀ k, k < 17 → j_J18_inc (nI k) (Int32.ofNat 17) = some (nI ((k + 1) % 17)) := by decide +kernel
theorem dq_dec : ∀ k, k < 17 → j_J18_dec (nI k) (Int32.ofNat 17) = some (nI ((k + 16) % 17)) := by decide +kernel
theorem rdF_n {α : Type} {N k : Nat} {f : Nat → α} (h : k < N) (hN : N < 2 ^ 31) : rdF N f (nI k) = some (f k) := by
  unfold rdF
  rw [if_neg (nI_in h hN), nI_clamp (by omega)]
theorem wrF_n {α : Type} {N k : Nat} {f : Nat → α} {v : α} (h : k < N) (hN : N < 2 ^ 31) : wrF N f (nI k) v = some (fun j => if j = k then v else f j) := by
  unfold wrF
  rw [if_neg (nI_in h hN), nI_clamp (by omega)]
theorem nI_ne {a b : Nat} (ha : a < 2 ^ 31) (hb : b < 2 ^ 31) (h : a ≠ b) : nI a ≠ nI b := fun q => h ((nI_eq ha hb).mp q)
section DQ
variable {f : Nat → Option Nat} {h t : Int32} {L : List Nat} {a ar x : Nat}
theorem dq_add (q : dqR f h t L) (hL : L.length < 8) : ∃ t' f', j_J18_addLast a x ar h t 17 f = some (t', f') ∧ dqR f' h t' (L ++ [x]) := by
  obtain ⟨k, hk, rfl, hl, rfl, hf⟩ := q
  have e1 : (k + L.length) % 17 < 17 := Nat.mod_lt _ (by decide)
  refine ⟨nI (((k + L.length) % 17 + 1) % 17), fun j => if j = (k + L.length) % 17 then some x else f j, ?_, k, hk, rfl, by rw [List.length_append]; exact hL, ?_, fun i hi => ?_⟩
  · unfold j_J18_addLast
    rw [wrF_n e1 (by decide)]
    show ob1 (j_J18_inc _ _) _ = _
    rw [dq_inc _ e1]
    show (if nI k = nI (((k + L.length) % 17 + 1) % 17) then none else some (nI (((k + L.length) % 17 + 1) % 17), _) : Option (Int32 × (Nat → Option Nat))) = _
    rw [if_neg (nI_ne (by omega) (by omega) (by omega))]
  · rw [List.length_append]
    congr 1
    show _ = (k + (L.length + 1)) % 17
    omega
  · show (if i = (k + L.length) % 17 then some x else f i) = _
    by_cases h0 : i = (k + L.length) % 17
    · rw [if_pos h0, show (i + 17 - k) % 17 = L.length from by omega, List.getElem?_append_right (Nat.le_refl _), Nat.sub_self]
      rfl
    · rw [if_neg h0, hf i hi]
      have h1 : (i + 17 - k) % 17 ≠ L.length := by omega
      by_cases h2 : (i + 17 - k) % 17 < L.length
      · rw [List.getElem?_append_left h2]
      · rw [List.getElem?_eq_none (by omega), List.getElem?_eq_none (by rw [List.length_append]; show L.length + 1 ≤ _; omega)]
theorem dq_remF (q : dqR f h t (x :: L)) : ∃ h' f', j_J18_removeFirst a ar h t 17 f = some (some x, h', f') ∧ dqR f' h' t L := by
  obtain ⟨k, hk, rfl, hl, rfl, hf⟩ := q
  have hl' : L.length + 1 ≤ 8 := hl
  refine ⟨nI ((k + 1) % 17), fun j => if j = k then none else f j, ?_, (k + 1) % 17, Nat.mod_lt _ (by decide), rfl, by omega, ?_, fun i hi => ?_⟩
  · unfold j_J18_removeFirst j_J18_pollFirst j_J18_elementAt
    rw [rdF_n hk (by decide), hf k hk, show (k + 17 - k) % 17 = 0 from by omega]
    show ob3 (ob1 (wrF 17 f (nI k) none) _) _ = _
    rw [wrF_n hk (by decide)]
    show ob3 (ob1 (j_J18_inc _ _) _) _ = _
    rw [dq_inc _ hk]
    rfl
  · congr 1
    show (k + (L.length + 1)) % 17 = _
    omega
  · show (if i = k then none else f i) = _
    by_cases h0 : i = k
    · rw [if_pos h0, List.getElem?_eq_none (by omega)]
    · rw [if_neg h0, hf i hi, show (i + 17 - k) % 17 = (i + 17 - (k + 1) % 17) % 17 + 1 from by omega]
      rfl
theorem dq_remL (q : dqR f h t (L ++ [x])) : ∃ t' f', j_J18_removeLast a ar h t 17 f = some (some x, t', f') ∧ dqR f' h t' L := by
  obtain ⟨k, hk, rfl, hl, rfl, hf⟩ := q
  rw [List.length_append] at hl
  have hl' : L.length + 1 ≤ 8 := hl
  have e1 : (k + (L ++ [x]).length) % 17 < 17 := Nat.mod_lt _ (by decide)
  have e2 : (k + L.length) % 17 < 17 := Nat.mod_lt _ (by decide)
  have e3 : (L ++ [x]).length = L.length + 1 := by rw [List.length_append]; rfl
  refine ⟨nI ((k + L.length) % 17), fun j => if j = (k + L.length) % 17 then none else f j, ?_, k, hk, rfl, by omega, rfl, fun i hi => ?_⟩
  · unfold j_J18_removeLast j_J18_pollLast j_J18_elementAt
    rw [dq_dec _ e1, show ((k + (L ++ [x]).length) % 17 + 16) % 17 = (k + L.length) % 17 from by omega]
    show ob3 (ob1 (ob1 (rdF 17 f (nI ((k + L.length) % 17))) _) _) _ = _
    rw [rdF_n e2 (by decide), hf _ e2, show ((k + L.length) % 17 + 17 - k) % 17 = L.length from by omega, List.getElem?_append_right (Nat.le_refl _), Nat.sub_self]
    show ob3 (ob1 (wrF 17 f (nI ((k + L.length) % 17)) none) _) _ = _
    rw [wrF_n e2 (by decide)]
    rfl
  · show (if i = (k + L.length) % 17 then none else f i) = _
    by_cases h0 : i = (k + L.length) % 17
    · rw [if_pos h0, List.getElem?_eq_none (by omega)]
    · rw [if_neg h0, hf i hi]
      have h1 : (i + 17 - k) % 17 ≠ L.length := by omega
      by_cases h2 : (i + 17 - k) % 17 < L.length
      · rw [List.getElem?_append_left h2]
      · have g1 : (L ++ [x])[(i + 17 - k) % 17]? = none := List.getElem?_eq_none (by rw [e3]; omega)
        have g2 : L[(i + 17 - k) % 17]? = none := List.getElem?_eq_none (by omega)
        rw [g1, g2]
theorem dq_empty (q : dqR f h t L) : j_J18_isEmpty a ar h t 17 f = some (if L = [] then 1 else 0) := by
  obtain ⟨k, hk, rfl, hl, rfl, hf⟩ := q
  unfold j_J18_isEmpty
  by_cases h0 : L = []
  · subst h0
    rw [if_pos (by show nI k = nI ((k + 0) % 17); congr 1; omega), if_pos rfl]
  · have h1 : 0 < L.length := List.length_pos_iff.mpr h0
    rw [if_neg (nI_ne (by omega) (by omega) (by omega)), if_neg h0]
theorem dq_cc (j : Int32) (m : Nat) (hm : m ≤ 17) : ∀ (n i fu : Nat) (f : Nat → Option Nat), i + n = m → j_J18_circularClear_L2 j 17 (fu + n) (nI i) (nI m) f = j_J18_circularClear_L2 j 17 fu (nI m) (nI m) (fun x => if i ≤ x ∧ x < m then none else f x) := by
  intro n
  induction n with
  | zero =>
    intro i fu f h0
    have : i = m := by omega
    subst this
    rw [show (fun x => if i ≤ x ∧ x < i then none else f x) = f from by funext x; rw [if_neg (by omega)]]
    rfl
  | succ n ih =>
    intro i fu f h0
    rw [show fu + (n + 1) = (fu + n) + 1 from rfl]
    conv => lhs; unfold j_J18_circularClear_L2
    rw [if_neg (by rw [nI_leI (by omega) (by omega)]; omega), wrF_n (by omega) (by decide)]
    show j_J18_circularClear_L2 j 17 (fu + n) (nI i + 1) (nI m) _ = _
    rw [nI_1, ih (i + 1) fu _ (by omega)]
    congr 1
    funext x
    by_cases h1 : i + 1 ≤ x ∧ x < m
    · rw [if_pos h1, if_pos (by omega)]
    · rw [if_neg h1]
      by_cases h2 : x = i
      · rw [if_pos h2, if_pos (by omega)]
      · rw [if_neg h2, if_neg (by omega)]
theorem dq_ccE (j : Int32) {m : Nat} {fu : Nat} {f : Nat → Option Nat} (h : nI m = j) : j_J18_circularClear_L2 j 17 (fu + 1) (nI m) (nI m) f = some f := by
  conv => lhs; unfold j_J18_circularClear_L2
  rw [if_pos (Int32.le_refl _), if_pos h]
theorem dq_ccN (j : Int32) {m : Nat} {fu : Nat} {f : Nat → Option Nat} (h : nI m ≠ j) : j_J18_circularClear_L2 j 17 (fu + 1) (nI m) (nI m) f = j_J18_circularClear_L2 j 17 fu (nI 0) j f := by
  conv => lhs; unfold j_J18_circularClear_L2
  rw [if_pos (Int32.le_refl _), if_neg h]
  rfl
theorem dq_clear (q : dqR f h t L) : ∃ f', j_J18_clear a ar h t 17 f = some (0, 0, f') ∧ dqR f' 0 0 [] := by
  obtain ⟨k, hk, rfl, hl, rfl, hf⟩ := q
  obtain ⟨e, he⟩ : ∃ e, e = (k + L.length) % 17 := ⟨_, rfl⟩
  have hlt : e < 17 := by omega
  have key : ∃ f', j_J18_circularClear ar (nI k) (nI e) 17 f = some f' ∧ ∀ i, i < 17 → f' i = none := by
    unfold j_J18_circularClear
    by_cases h1 : e < k
    · rw [if_pos (nI_lt h1 (by omega))]
      refine ⟨fun x => if 0 ≤ x ∧ x < e then none else if k ≤ x ∧ x < 17 then none else f x, ?_, fun i hi => ?_⟩
      · show ob1 (j_J18_circularClear_L2 (nI e) 17 4096 (nI k) (nI 17) f) _ = _
        rw [show 4096 = ((((4096 - (17 - k)) - 1 - e) - 1 + 1) + e + 1) + (17 - k) from by omega, dq_cc _ _ (Nat.le_refl _) (17 - k) k _ f (by omega), dq_ccN _ (nI_ne (by decide) (by omega) (by omega)), dq_cc _ e (by omega) e 0 _ _ (by omega), dq_ccE _ rfl]
        rfl
      · show (if 0 ≤ i ∧ i < e then none else if k ≤ i ∧ i < 17 then none else f i) = none
        by_cases h2 : 0 ≤ i ∧ i < e
        · rw [if_pos h2]
        · rw [if_neg h2]
          by_cases h3 : k ≤ i ∧ i < 17
          · rw [if_pos h3]
          · rw [if_neg h3, hf i hi, List.getElem?_eq_none (by omega)]
    · rw [if_neg (nI_nlt (by omega) (by omega))]
      refine ⟨fun x => if k ≤ x ∧ x < e then none else f x, ?_, fun i hi => ?_⟩
      · show ob1 (j_J18_circularClear_L2 (nI e) 17 4096 (nI k) (nI e) f) _ = _
        rw [show 4096 = ((4096 - (e - k)) - 1 + 1) + (e - k) from by omega, dq_cc _ e (by omega) (e - k) k _ f (by omega), dq_ccE _ rfl]
        rfl
      · show (if k ≤ i ∧ i < e then none else f i) = none
        by_cases h3 : k ≤ i ∧ i < e
        · rw [if_pos h3]
        · rw [if_neg h3, hf i hi, List.getElem?_eq_none (by omega)]
  obtain ⟨f', h1, h2⟩ := key
  refine ⟨f', ?_, 0, by decide, rfl, Nat.zero_le _, rfl, fun i hi => by rw [h2 i hi]; rfl⟩
  unfold j_J18_clear
  rw [← he, h1]
  rfl
end DQ
