/-! BlackoutStart: the history and the slots -/
theorem cmp_lt {x y : Int64} : (lg_cmp x y < 0) ↔ x < y := by
  unfold lg_cmp
  by_cases h1 : x > y
  · rw [if_pos h1]
    constructor
    · intro h; exact absurd h (by decide)
    · intro h
      have h1 := Int64.lt_iff_toInt_lt.mp h1
      have h := Int64.lt_iff_toInt_lt.mp h
      omega
  · rw [if_neg h1]
    by_cases h2 : x = y
    · rw [if_pos h2]
      constructor
      · intro h; exact absurd h (by decide)
      · intro h
        subst h2
        have h := Int64.lt_iff_toInt_lt.mp h
        omega
    · rw [if_neg h2]
      constructor
      · intro _
        rw [Int64.lt_iff_toInt_lt]
        have h3 : ¬ y.toInt < x.toInt := fun q => h1 (Int64.lt_iff_toInt_lt.mpr q)
        have h4 : x.toInt ≠ y.toInt := fun q => h2 (Int64.toInt_inj.mp q)
        omega
      · intro _; decide
theorem cmp_gt {x y : Int64} : (0 < lg_cmp x y) ↔ y < x := by
  unfold lg_cmp
  by_cases h1 : x > y
  · rw [if_pos h1]
    exact ⟨fun _ => h1, fun _ => by decide⟩
  · rw [if_neg h1]
    refine ⟨fun h => ?_, fun h => absurd h h1⟩
    by_cases h2 : x = y
    · rw [if_pos h2] at h; exact absurd h (by decide)
    · rw [if_neg h2] at h; exact absurd h (by decide)
/-- BlackoutStart.in, said plainly -/
theorem in_spec {x y z : Int64} : j_X1_in x y z = some (if y.toInt ≤ x.toInt ∧ x.toInt ≤ z.toInt then 1 else 0) := by
  unfold j_X1_in
  by_cases h1 : lg_cmp x y < 0
  · rw [if_pos h1, if_neg]
    have := Int64.lt_iff_toInt_lt.mp (cmp_lt.mp h1)
    omega
  · rw [if_neg h1]
    have h1' : ¬ x.toInt < y.toInt := fun q => h1 (cmp_lt.mpr (Int64.lt_iff_toInt_lt.mpr q))
    by_cases h2 : 0 < lg_cmp x z
    · rw [if_pos h2, if_neg]
      have := Int64.lt_iff_toInt_lt.mp (cmp_gt.mp h2)
      omega
    · rw [if_neg h2, if_pos]
      have h2' : ¬ z.toInt < x.toInt := fun q => h2 (cmp_gt.mpr (Int64.lt_iff_toInt_lt.mpr q))
      omega
theorem in_int {x : Int32} {a b : Int64} : j_X1_in x.toInt64 a b = some (if a.toInt ≤ x.toInt ∧ x.toInt ≤ b.toInt then 1 else 0) := by
  rw [in_spec, Int32.toInt_toInt64]
/-- a slot's number -/
def slN (p0 : Int32) : Option Nat := if 0 ≤ p0.toInt ∧ p0.toInt ≤ 1 then some p0.toInt.toNat else none
theorem slN_e {p0 : Int32} {k : Nat} (h : slN p0 = some k) : k < 2 ∧ p0 = nI k := by
  unfold slN at h
  split at h
  next hn =>
    cases h
    refine ⟨by omega, Int32.toInt_inj.mp ?_⟩
    rw [nI_toInt (by omega)]
    omega
  next => cases h
section X1H
variable {p : Program} {l : Launch} {e : Env} {R : Room} {s : State} {m : MethodId} {args : Array Value} {below : List Frame} {meth : Method} {c : Code} {H : Heap} {locs : List Loc} {cells slots : Nat} {Q : State → Prop}
variable {cc : ByteArray} {pc : Nat} {ls : Array Slot} {rest : List Value} {A : Nat → Prop} {L0 n nL : Nat} {g : gNum} {own : String} {rm : Room} {γ : Type} {o : γ} {lv : List (Nat × Value)} {RR : Option Value → GH → Nat → Prop} {RT : String → Addr → GH → Prop} {mc ms : Nat} {ret : Option FieldType}
variable {b d x sz : Nat} {sc : SC} {su : SU} {σ : SS} {G0 G : GH} {p0 : Int32} {index : Nat} {iv by_ : Nat → Int32} {hi : List SS} {so : Nat → Option SS}
set_option maxRecDepth 100000 in
theorem w_X1_checkSlot {l : Launch} (hst : l.stackTraces = false) : gMetX l yX1_checkSlot (ws_ yX1_checkSlot cX1_checkSlot 1 none) g.1 clX L0 (gK g) [.int p0] G sz 9 120 1 6 (fun r G' n => (∃ k, slN p0 = some k) ∧ r = none ∧ G' = G ∧ n = sz) (fun E _ G' => slN p0 = none ∧ E = exN 3 ∧ G' = G) := by
  refine gMetX.of (own := RX1) (gK_ok g) (by decide +kernel) (Nat.le_of_ble_eq_true rfl) rfl ?_
  intro p e R s m args below meth c A Q ls H hF hQ hnt hG hl
  have hx := hF.1.1
  have hb := hF.1.2.1
  obtain ⟨Q', hQ', hret⟩ := gx_ret hQ
  have hl : lv_has ls 1 [(0, .int p0)] := hl
  refine lv_iload_n hx hb dX1_checkSlot_0 rfl (lv_at hl 0 rfl) ?_
  refine lv_i2l hx hb dX1_checkSlot_1 rfl ?_
  refine lv_lconst (v := 0) hx hb dX1_checkSlot_2 (by decide) ?_
  refine lv_lconst (v := 1) hx hb dX1_checkSlot_3 (by decide) ?_
  have h : ob1 (j_X1_in p0.toInt64 0 1) (fun v => if v = 0 then some (0 : Nat) else some 1) = some (if 0 ≤ p0.toInt ∧ p0.toInt ≤ 1 then 1 else 0) := by
    rw [in_int]
    show (if (if 0 ≤ p0.toInt ∧ p0.toInt ≤ 1 then (1 : Int32) else 0) = 0 then some 0 else some 1) = _
    by_cases hc : 0 ≤ p0.toInt ∧ p0.toInt ≤ 1
    · rw [if_pos hc, if_pos hc, if_neg (by decide)]
    · rw [if_neg hc, if_neg hc, if_pos rfl]
  refine kx_in q1029 hF hG hl (Nat.le_of_ble_eq_true rfl) (Nat.le_of_ble_eq_true rfl) h ⟨Nat.le_of_ble_eq_true rfl, Nat.le_of_ble_eq_true rfl⟩ (Nat.le_of_ble_eq_true rfl) dX1_checkSlot_4 (fun v1 H locs h hG => ?_)
  refine kx_chk3 q1032 hst hF hQ hnt hG hl (Nat.le_of_ble_eq_true rfl) (Nat.le_of_ble_eq_true rfl) h ⟨Nat.le_of_ble_eq_true rfl, Nat.le_of_ble_eq_true rfl⟩ ⟨Nat.le_of_ble_eq_true rfl, Nat.le_of_ble_eq_true rfl⟩ (Nat.le_of_ble_eq_true rfl) dX1_checkSlot_7 (fun h => ?_) (fun h H locs hG => ?_)
  · intro q
    refine ⟨?_, rfl, rfl⟩
    have h := Option.some.inj h
    unfold slN
    by_cases hk : 0 ≤ p0.toInt ∧ p0.toInt ≤ 1
    · rw [if_pos hk] at h; cases h
    · rw [if_neg hk]
  · have h := Option.some.inj h
    refine hret _ _ _ _ _ (g_vret hQ' hG ⟨?_, rfl, rfl, rfl⟩ (Nat.le_of_ble_eq_true rfl) (Nat.le_of_ble_eq_true rfl) dX1_checkSlot_10)
    unfold slN
    by_cases hk : 0 ≤ p0.toInt ∧ p0.toInt ≤ 1
    · exact ⟨_, if_pos hk⟩
    · rw [if_neg hk] at h; cases h
theorem kx_chkS (hq : (Cond.methodLink own index yX1_checkSlot) ∈ lw_all) (hst : l.stackTraces = false) (hF : gXK p m c cc nL s args own g A R rm) (hQ : gQX p l e R s m args below meth c cc g.1 clX L0 A RR RT mc ms ret Q) (hnt : ∀ x ∈ c.exceptionTable.toList, False) (hG : gJK g L0 A s.heap G n H locs) (hl : lv_has ls nL lv) (r1 : 9 + 1 ≤ rm.frames) (r2 : 8 + (1 + 11) + 120 ≤ rm.locals) (hc : cells + 1 ≤ rm.cells ∧ slots + 6 ≤ rm.slots) (hmc : cells + 1 ≤ mc ∧ slots + 6 ≤ ms) (hW : (rest.map fun v => v.category).sum ≤ 8) (hdg : decode cc pc = .ok (.invokestatic index, 3))
    (kx : slN p0 = none → ∀ q, RT (exN 3) q G) (kk : ∀ k, slN p0 = some k → ∀ (H1 : Heap) (locs1 : List Loc), gJK g L0 A s.heap G n H1 locs1 → W p l e R s m args below meth c H1 locs1 (cells + 1) (slots + 6) Q (F0 m (pc + 3) ls rest)) : W p l e R s m args below meth c H locs cells slots Q (F0 m pc ls (.int p0 :: rest)) := by
  refine gx_callS hF hG hl (w_X1_checkSlot (g := g) (L0 := L0) (G := G) (sz := n) (p0 := p0) hst) (va_cwS 1 hF.1.2.2.2.2 (lw_S hq q1807 q82 q1808) rfl rfl rfl (by decide +kernel) (g_room hF r1 r2)) rfl rfl hW hdg (hfA hF.2.2.2.2 hc) (fun E q ce G1 n1 H1 locs1 hR hG1 h1 h2 h3 => ?_) (fun v' G1 n1 H1 locs1 hR hG1 => ?_)
  · obtain ⟨h4, rfl, rfl⟩ := hR
    exact gx_out hQ (fun x hx => (hnt x hx).elim) hG1 (kx h4 q) h1 h2 h3 hmc.1 hmc.2
  · obtain ⟨⟨k, h4⟩, rfl, h5, h6⟩ := hR
    rw [h5, h6] at hG1
    exact kk k h4 H1 locs1 hG1
set_option maxRecDepth 100000 in
theorem w_X1_undo {l : Launch} (hst : l.stackTraces = false) (hX : XW g.2.1 L0 x (su, sc, σ, iv, by_, hi, so) b d G) : gMetX l yX1_undo (ws_ yX1_undo cX1_undo 1 (some .int)) g.1 clX L0 (gK g) [.ref x] G sz 9 150 1 6 (fun v G' n => ∃ i0 la b' d', hi = i0 ++ [la] ∧ v = some (.int (Int32.ofNat i0.length)) ∧ XW g.2.1 L0 x (su, sc, la, iv, by_, i0, so) b' d' G') (fun E _ G' => hi = [] ∧ E = exN 2 ∧ G' = G) := by
  refine gMetX.of (own := RX1) (gK_ok g) (by decide +kernel) (Nat.le_of_ble_eq_true rfl) rfl ?_
  intro p e R s m args below meth c A Q ls H hF hQ hnt hG hl
  have hx := hF.1.1
  have hb := hF.1.2.1
  obtain ⟨Q', hQ', hret⟩ := gx_ret hQ
  have hl : lv_has ls 1 [(0, .ref x)] := hl
  obtain ⟨bb, hd, he, sl, f, h9, t9, Bs, S, o⟩ := hX
  have B := o.toB
  have hh : hi = Bs.map (·.2) := o.2.2.2.1
  have hs : ∀ i, so i = (S i).map (·.2) := o.2.2.2.2.1
  refine lv_aload_n hx hb dX1_undo_0 rfl (lv_at hl 0 rfl) ?_
  refine g_get hF hG B.1.1 (C := RX1) (T := TX1) (N := 7) rfl in_X1 5 (by decide) q755 (fun _ h => h) (v := .ref hd) rfl dX1_undo_1 ?_
  refine g_callV hF hG hl B.1.2.2.1 (C := RJ18) (T := TJ18) (N := 3) rfl (w_J18_isEmpty (g := g) (l := l) (L0 := L0) (sz := sz) B.1.2.2.1 B.1.2.2.2.1 (dq_empty B.2.2.1)) (As := []) (cwV 0 hF.1.2.2.2.2 (lw_V q1784 q1785 q1786 q107 q1787) rfl rfl rfl (by decide +kernel) (g_room hF (Nat.le_of_ble_eq_true rfl) (Nat.le_of_ble_eq_true rfl))) rfl rfl (Nat.le_of_ble_eq_true rfl) dX1_undo_4 (hf0 hF.2.2.2.2 ⟨Nat.le_of_ble_eq_true rfl, Nat.le_of_ble_eq_true rfl⟩) (fun v G2 n2 H locs hR hG => ?_)
  obtain ⟨rfl, e2, e3⟩ := hR
  rw [e2, e3] at hG
  rcases List.eq_nil_or_concat Bs with hB | ⟨Bs1, z, hB⟩
  · subst hB
    refine lv_if_ne hx hb dX1_undo_7 (tgt := 14) (by decide) (fun _ => ?_) (fun h => absurd h (by decide))
    refine lv_iconst (v := 0) hx hb dX1_undo_14 (by decide) ?_
    refine kx_chk2 q991 hst hF hQ hnt hG hl (Nat.le_of_ble_eq_true rfl) (Nat.le_of_ble_eq_true rfl) (P := some 0) (P2 := none) (o := 0) rfl ⟨Nat.le_of_ble_eq_true rfl, Nat.le_of_ble_eq_true rfl⟩ ⟨Nat.le_of_ble_eq_true rfl, Nat.le_of_ble_eq_true rfl⟩ (Nat.le_of_ble_eq_true rfl) dX1_undo_15 (fun _ q => ⟨hh, rfl, rfl⟩) (fun h => by cases h)
  · rw [List.concat_eq_append] at hB
    subst hB
    have hne : ¬ ((Bs1 ++ [z]).map (·.1.1)) = [] := by simp
    refine lv_if_ne hx hb dX1_undo_7 (tgt := 14) (by decide) (fun h => absurd (if_neg hne) h) (fun _ => ?_)
    refine lv_iconst (v := 1) hx hb dX1_undo_10 (by decide) ?_
    refine lv_goto hx hb dX1_undo_11 (tgt := 15) (by decide) ?_
    refine kx_chk2 q991 hst hF hQ hnt hG hl (Nat.le_of_ble_eq_true rfl) (Nat.le_of_ble_eq_true rfl) (P := none) (P2 := some 0) (o := 0) rfl ⟨Nat.le_of_ble_eq_true rfl, Nat.le_of_ble_eq_true rfl⟩ ⟨Nat.le_of_ble_eq_true rfl, Nat.le_of_ble_eq_true rfl⟩ (Nat.le_of_ble_eq_true rfl) dX1_undo_15 (fun h => by cases h) (fun _ H locs hG => ?_)
    refine lv_aload_n hx hb dX1_undo_18 rfl (lv_at hl 0 rfl) ?_
    refine lv_aload_n hx hb dX1_undo_19 rfl (lv_at hl 0 rfl) ?_
    refine g_get hF hG B.1.1 (C := RX1) (T := TX1) (N := 7) rfl in_X1 5 (by decide) q755 (fun _ h => h) (v := .ref hd) rfl dX1_undo_20 ?_
    have hq := B.2.2.1
    rw [List.map_append] at hq
    obtain ⟨t2, f2, ha, hq2⟩ := dq_remL (a := hd) (ar := he) (L := Bs1.map (·.1.1)) (x := z.1.1) hq
    refine g_callV hF hG hl B.1.2.2.1 (C := RJ18) (T := TJ18) (N := 3) rfl (w_J18_removeLast (g := g) (l := l) (L0 := L0) (sz := sz) B.1.2.2.1 B.1.2.2.2.1 B.2.1.2.2.1 B.2.1.2.2.2.1 ha) (As := []) (cwV 0 hF.1.2.2.2.2 (lw_V q1788 q1789 q1790 q107 q1791) rfl rfl rfl (by decide +kernel) (g_room hF (Nat.le_of_ble_eq_true rfl) (Nat.le_of_ble_eq_true rfl))) rfl rfl (Nat.le_of_ble_eq_true rfl) dX1_undo_23 (hfA hF.2.2.2.2 ⟨Nat.le_of_ble_eq_true rfl, Nat.le_of_ble_eq_true rfl⟩) (fun v G2 n2 H locs hR hG => ?_)
    obtain ⟨rfl, e2, e3⟩ := hR
    rw [e2, e3] at hG
    have B2 := B.pdq hq2
    have hzk := B2.2.2.2.1 z (List.mem_cons_of_mem _ (by simp))
    refine g_castS hF hG hzk.2.1.1 (q := (RX2, TX2, 26)) rfl q130 dX1_undo_26 ?_
    refine g_put hF hG B2.1.1 B2.2.1.1 (C := RX1) (T := TX1) (N := 7) rfl in_X1 tyX1 tyX1_ok nmX1 4 (by decide) q754 (fun _ h => h) rfl (by first | rfl | decide) rfl (Nat.le_of_ble_eq_true rfl) dX1_undo_29 (fun H locs hG => ?_)
    have hG : gJK g L0 A s.heap (gU _ x (.inr (0, xV bb z.1.1 hd sl iv))) sz H locs := hG
    have B4 := B2.px (iv' := iv) (cu' := z.1.1)
    refine lv_aload_n hx hb dX1_undo_32 rfl (lv_at hl 0 rfl) ?_
    refine g_get hF hG B4.1.1 (C := RX1) (T := TX1) (N := 7) rfl in_X1 5 (by decide) q755 (fun _ h => h) (v := .ref hd) rfl dX1_undo_33 ?_
    refine kx_hsz q845 hF hG hl B4.1.2.2.1 B4.1.2.2.2.1 B4.2.2.1 (Nat.le_of_ble_eq_true rfl) (Nat.le_of_ble_eq_true rfl) ⟨Nat.le_of_ble_eq_true rfl, Nat.le_of_ble_eq_true rfl⟩ (Nat.le_of_ble_eq_true rfl) dX1_undo_36 (fun H locs hG => ?_)
    refine hret _ _ _ _ _ (g_iret hQ' hG ⟨Bs1.map (·.2), z.2, z.1.1, z.1.2, by rw [hh, List.map_append]; rfl, by rw [List.length_map, List.length_map], bb, hd, he, sl, f2, h9, t2, Bs1, S, ?_⟩ (Nat.le_of_ble_eq_true rfl) (Nat.le_of_ble_eq_true rfl) dX1_undo_39)
    refine XB.toO ?_ rfl hs
    have B5 := B4.sub (Ks' := (Bs1 ++ [z]) ++ slR S) (List.sublist_cons_self _ _)
    refine B5.perm ?_
    rw [List.append_assoc]
    exact List.perm_middle
end X1H
