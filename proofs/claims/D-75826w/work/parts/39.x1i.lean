/-! BlackoutStart: save, restore -/
theorem slR_mem {S : Nat → Option (BA × SS)} {k : Nat} {z : BA × SS} (hk : k < 2) (h : S k = some z) : z ∈ slR S := by
  unfold slR
  have : k = 0 ∨ k = 1 := by omega
  rcases this with rfl | rfl <;> rw [h] <;> simp
section X1I
variable {L0 b d x sz : Nat} {sc : SC} {su : SU} {σ : SS} {G0 G : GH} {p0 : Int32} {index : Nat} {iv by_ : Nat → Int32} {hi : List SS} {so : Nat → Option SS} {g : gNum}
set_option maxRecDepth 100000 in
theorem w_X1_save {l : Launch} (hst : l.stackTraces = false) (hX : XW g.2.1 L0 x (su, sc, σ, iv, by_, hi, so) b d G) (hz : σ.1 25 = 0 ∨ σ.1 25 = 1) : gMetX l yX1_save (ws_ yX1_save cX1_save 2 none) g.1 clX L0 (gK g) [.ref x, .int p0] G sz 10 180 19 317 (fun v G' n => ∃ k, slN p0 = some k ∧ v = none ∧ XW g.2.1 L0 x (su, sc, σ, iv, by_, hi, fun i => if i = k then some (cpS σ) else so i) b d G') (fun E _ G' => slN p0 = none ∧ E = exN 3 ∧ G' = G) := by
  refine gMetX.of (own := RX1) (gK_ok g) (by decide +kernel) (Nat.le_of_ble_eq_true rfl) rfl ?_
  intro p e R s m args below meth c A Q ls H hF hQ hnt hG hl
  have hx := hF.1.1
  have hb := hF.1.2.1
  obtain ⟨Q', hQ', hret⟩ := gx_ret hQ
  have hl : lv_has ls 2 [(0, .ref x), (1, .int p0)] := hl
  obtain ⟨bb, hd, he, sl, f, h9, t9, Bs, S, o⟩ := hX
  have B := o.toB
  have hh : hi = Bs.map (·.2) := o.2.2.2.1
  have hs : ∀ i, so i = (S i).map (·.2) := o.2.2.2.2.1
  refine lv_iload_n hx hb dX1_save_0 rfl (lv_at hl 1 rfl) ?_
  refine kx_chkS q1806 hst hF hQ hnt hG hl (Nat.le_of_ble_eq_true rfl) (Nat.le_of_ble_eq_true rfl) ⟨Nat.le_of_ble_eq_true rfl, Nat.le_of_ble_eq_true rfl⟩ ⟨Nat.le_of_ble_eq_true rfl, Nat.le_of_ble_eq_true rfl⟩ (Nat.le_of_ble_eq_true rfl) dX1_save_1 (fun h q => ⟨h, rfl, rfl⟩) (fun k hk H locs hG => ?_)
  obtain ⟨hk2, hkn⟩ := slN_e hk
  refine lv_aload_n hx hb dX1_save_4 rfl (lv_at hl 0 rfl) ?_
  refine g_get hF hG B.1.1 (C := RX1) (T := TX1) (N := 7) rfl in_X1 6 (by decide) q756 (fun _ h => h) (v := .ref sl) rfl dX1_save_5 ?_
  refine lv_iload_n hx hb dX1_save_8 rfl (lv_at hl 1 rfl) ?_
  refine lv_aload_n hx hb dX1_save_9 rfl (lv_at hl 0 rfl) ?_
  refine g_get hF hG B.1.1 (C := RX1) (T := TX1) (N := 7) rfl in_X1 4 (by decide) q754 (fun _ h => h) (v := .ref b) rfl dX1_save_10 ?_
  refine kx_copy q953 hF hG hl (B.2.2.2.1 _ List.mem_cons_self) B.2.2.2.2.2.1 hz (Nat.le_of_ble_eq_true rfl) (Nat.le_of_ble_eq_true rfl) ⟨Nat.le_of_ble_eq_true rfl, Nat.le_of_ble_eq_true rfl⟩ (Nat.le_of_ble_eq_true rfl) dX1_save_13 (fun H1 locs1 hG1 => ?_)
  have B3 := B.cp (n := sz) (σ' := cpS σ) List.mem_cons_self (fun a e q => hG.lt q)
  have hkc : p0.toNatClampNeg = k := by rw [hkn, nI_clamp (by omega)]
  refine g_aastO hF hG1 B3.1.2.2.2.2 B3.2.1.2.2.2.2 5 rfl (B3.2.2.2.1 _ List.mem_cons_self).2.1.1 (r := (RX2, TX2, 26)) rfl (Or.inl rfl) (by rw [hkn]; exact nI_in hk2 (by decide)) dX1_save_16 (fun H locs hG => ?_)
  have B4 := B3.ps (sa' := fun i => ((fun i => if i = k then some ((sz, 0), cpS σ) else S i) i : Option (BA × SS)).map (·.1.1))
  have hsa : (fun j => if j = p0.toNatClampNeg then some sz else (S j).map (·.1.1)) = (fun i => ((fun i => if i = k then some ((sz, 0), cpS σ) else S i) i : Option (BA × SS)).map (·.1.1)) := by
    funext j
    rw [hkc]
    by_cases hj : j = k
    · simp [hj]
    · simp [hj]
  have hG : gJK g L0 A s.heap (gU (sG g.2.1 sz 0 (su.1 0) sc (cpS σ) G) sl (aO g.2.1 5 2 (fun i => ((fun i => if i = k then some ((sz, 0), cpS σ) else S i) i : Option (BA × SS)).map (·.1.1)))) (sz + 18) H locs := by
    rw [← hsa]
    exact hG
  refine hret _ _ _ _ _ (g_vret hQ' hG ⟨k, hk, rfl, bb, hd, he, sl, f, h9, t9, Bs, fun i => if i = k then some ((sz, 0), cpS σ) else S i, ?_⟩ (Nat.le_of_ble_eq_true rfl) (Nat.le_of_ble_eq_true rfl) dX1_save_17)
  refine XB.toO ?_ hh (fun i => ?_)
  · have p1 : (((sz, 0), cpS σ) :: ((b, d), σ) :: (Bs ++ slR S)).Perm (((b, d), σ) :: (Bs ++ ((sz, 0), cpS σ) :: slR S)) := (List.Perm.swap _ _ _).trans (List.Perm.cons _ List.perm_middle.symm)
    have B5 := B4.perm p1
    have : k = 0 ∨ k = 1 := by omega
    rcases this with rfl | rfl
    · refine B5.sub (List.Sublist.cons₂ _ ((List.Sublist.refl _).append ?_))
      unfold slR
      exact List.Sublist.cons₂ _ (List.sublist_append_right _ _)
    · have B6 := B5.sub (Ks' := ((b, d), σ) :: (Bs ++ ((sz, 0), cpS σ) :: (S 0).toList)) (List.Sublist.cons₂ _ ((List.Sublist.refl _).append (by
        unfold slR
        exact List.Sublist.cons₂ _ (List.sublist_append_left _ _))))
      refine B6.perm (List.Perm.cons _ (List.Perm.append_left _ ?_))
      exact (List.perm_append_singleton _ _).symm
  · by_cases hi9 : i = k
    · simp [hi9]
    · simp [hi9, hs i]
set_option maxRecDepth 100000 in
theorem w_X1_restore {l : Launch} (hst : l.stackTraces = false) (hX : XW g.2.1 L0 x (su, sc, σ, iv, by_, hi, so) b d G) (hz : ∀ k τ, so k = some τ → τ.1 25 = 0 ∨ τ.1 25 = 1) : gMetX l yX1_restore (ws_ yX1_restore cX1_restore 2 none) g.1 clX L0 (gK g) [.ref x, .int p0] G sz 10 180 20 323 (fun v G' n => ∃ k τ b', slN p0 = some k ∧ so k = some τ ∧ v = none ∧ XW g.2.1 L0 x (su, sc, cpS τ, iv, by_, [], so) b' 0 G') (fun E _ G' => (slN p0 = none ∧ E = exN 3 ∨ ∃ k, slN p0 = some k ∧ so k = none ∧ E = exN 4) ∧ G' = G) := by
  refine gMetX.of (own := RX1) (gK_ok g) (by decide +kernel) (Nat.le_of_ble_eq_true rfl) rfl ?_
  intro p e R s m args below meth c A Q ls H hF hQ hnt hG hl
  have hx := hF.1.1
  have hb := hF.1.2.1
  obtain ⟨Q', hQ', hret⟩ := gx_ret hQ
  have hl : lv_has ls 2 [(0, .ref x), (1, .int p0)] := hl
  obtain ⟨bb, hd, he, sl, f, h9, t9, Bs, S, o⟩ := hX
  have B := o.toB
  have hs : ∀ i, so i = (S i).map (·.2) := o.2.2.2.2.1
  refine lv_iload_n hx hb dX1_restore_0 rfl (lv_at hl 1 rfl) ?_
  refine kx_chkS q1806 hst hF hQ hnt hG hl (Nat.le_of_ble_eq_true rfl) (Nat.le_of_ble_eq_true rfl) ⟨Nat.le_of_ble_eq_true rfl, Nat.le_of_ble_eq_true rfl⟩ ⟨Nat.le_of_ble_eq_true rfl, Nat.le_of_ble_eq_true rfl⟩ (Nat.le_of_ble_eq_true rfl) dX1_restore_1 (fun h q => ⟨Or.inl ⟨h, rfl⟩, rfl⟩) (fun k hk H locs hG => ?_)
  obtain ⟨hk2, hkn⟩ := slN_e hk
  have hin : vp_in p0 2 := by rw [hkn]; exact nI_in hk2 (by decide)
  have hkc : p0.toNatClampNeg = k := by rw [hkn, nI_clamp (by omega)]
  refine lv_aload_n hx hb dX1_restore_4 rfl (lv_at hl 0 rfl) ?_
  refine g_get hF hG B.1.1 (C := RX1) (T := TX1) (N := 7) rfl in_X1 6 (by decide) q756 (fun _ h => h) (v := .ref sl) rfl dX1_restore_5 ?_
  refine lv_iload_n hx hb dX1_restore_8 rfl (lv_at hl 1 rfl) ?_
  refine g_aald hF hG B.1.2.2.2.2 5 rfl hin dX1_restore_9 ?_
  rw [hkc]
  cases hS : S k with
  | none =>
    refine lv_ifnullN hx hb dX1_restore_10 (tgt := 17) (by decide) ?_
    refine lv_iconst (v := 0) hx hb dX1_restore_17 (by decide) ?_
    exact kx_chk4 q1474 hst hF hQ hnt hG hl (Nat.le_of_ble_eq_true rfl) (Nat.le_of_ble_eq_true rfl) (P := some 0) (P2 := none) (o := 0) rfl ⟨Nat.le_of_ble_eq_true rfl, Nat.le_of_ble_eq_true rfl⟩ ⟨Nat.le_of_ble_eq_true rfl, Nat.le_of_ble_eq_true rfl⟩ (Nat.le_of_ble_eq_true rfl) dX1_restore_18 (fun _ q => ⟨Or.inr ⟨k, hk, by rw [hs k, hS]; rfl, rfl⟩, rfl⟩) (fun h => by cases h)
  | some z =>
    have hso : so k = some z.2 := by rw [hs k, hS]; rfl
    have hzm : z ∈ ((b, d), σ) :: (Bs ++ slR S) := List.mem_cons_of_mem _ (List.mem_append.mpr (Or.inr (slR_mem hk2 hS)))
    refine lv_ifnull hx hb dX1_restore_10 ?_
    refine lv_iconst (v := 1) hx hb dX1_restore_13 (by decide) ?_
    refine lv_goto hx hb dX1_restore_14 (tgt := 18) (by decide) ?_
    refine kx_chk4 q1474 hst hF hQ hnt hG hl (Nat.le_of_ble_eq_true rfl) (Nat.le_of_ble_eq_true rfl) (P := none) (P2 := some 0) (o := 0) rfl ⟨Nat.le_of_ble_eq_true rfl, Nat.le_of_ble_eq_true rfl⟩ ⟨Nat.le_of_ble_eq_true rfl, Nat.le_of_ble_eq_true rfl⟩ (Nat.le_of_ble_eq_true rfl) dX1_restore_18 (fun h => by cases h) (fun _ H locs hG => ?_)
    refine lv_aload_n hx hb dX1_restore_21 rfl (lv_at hl 0 rfl) ?_
    refine lv_aload_n hx hb dX1_restore_22 rfl (lv_at hl 0 rfl) ?_
    refine g_get hF hG B.1.1 (C := RX1) (T := TX1) (N := 7) rfl in_X1 6 (by decide) q756 (fun _ h => h) (v := .ref sl) rfl dX1_restore_23 ?_
    refine lv_iload_n hx hb dX1_restore_26 rfl (lv_at hl 1 rfl) ?_
    refine g_aald hF hG B.1.2.2.2.2 5 rfl hin dX1_restore_27 ?_
    rw [hkc, hS]
    refine kx_copy (b := z.1.1) (d := z.1.2) (σ := z.2) q953 hF hG hl (B.2.2.2.1 z hzm) B.2.2.2.2.2.1 (hz k _ hso) (Nat.le_of_ble_eq_true rfl) (Nat.le_of_ble_eq_true rfl) ⟨Nat.le_of_ble_eq_true rfl, Nat.le_of_ble_eq_true rfl⟩ (Nat.le_of_ble_eq_true rfl) dX1_restore_28 (fun H1 locs1 hG1 => ?_)
    have B3 := B.cp (n := sz) (σ' := cpS z.2) hzm (fun a e q => hG.lt q)
    refine g_put hF hG1 B3.1.1 B3.2.1.1 (C := RX1) (T := TX1) (N := 7) rfl in_X1 tyX1 tyX1_ok nmX1 4 (by decide) q754 (fun _ h => h) rfl (by first | rfl | decide) rfl (Nat.le_of_ble_eq_true rfl) dX1_restore_31 (fun H locs hG => ?_)
    have hG : gJK g L0 A s.heap (gU _ x (.inr (0, xV bb sz hd sl iv))) (sz + 18) H locs := hG
    have B4 := B3.px (iv' := iv) (cu' := sz)
    refine lv_aload_n hx hb dX1_restore_34 rfl (lv_at hl 0 rfl) ?_
    refine g_get hF hG B4.1.1 (C := RX1) (T := TX1) (N := 7) rfl in_X1 5 (by decide) q755 (fun _ h => h) (v := .ref hd) rfl dX1_restore_35 ?_
    obtain ⟨f2, ha, hq2⟩ := dq_clear (a := hd) (ar := he) B4.2.2.1
    refine g_callV hF hG hl B4.1.2.2.1 (C := RJ18) (T := TJ18) (N := 3) rfl (w_J18_clear (g := g) (l := l) (L0 := L0) (sz := sz + 18) B4.1.2.2.1 B4.1.2.2.2.1 B4.2.1.2.2.1 B4.2.1.2.2.2.1 ha) (As := []) (cwV 0 hF.1.2.2.2.2 (lw_V q1426 q1427 q1428 q107 q1429) rfl rfl rfl (by decide +kernel) (g_room hF (Nat.le_of_ble_eq_true rfl) (Nat.le_of_ble_eq_true rfl))) rfl rfl (Nat.le_of_ble_eq_true rfl) dX1_restore_38 (hfA hF.2.2.2.2 ⟨Nat.le_of_ble_eq_true rfl, Nat.le_of_ble_eq_true rfl⟩) (fun v G2 n2 H locs hR hG => ?_)
    obtain ⟨rfl, e2, e3⟩ := hR
    rw [e2, e3] at hG
    have B5 := B4.pdq hq2
    refine hret _ _ _ _ _ (g_vret hQ' hG ⟨k, z.2, sz, hk, hso, rfl, bb, hd, he, sl, f2, 0, 0, [], S, ?_⟩ (Nat.le_of_ble_eq_true rfl) (Nat.le_of_ble_eq_true rfl) dX1_restore_41)
    refine XB.toO (B5.sub (List.Sublist.cons₂ _ (List.Sublist.cons _ ?_))) rfl hs
    exact List.sublist_append_right _ _
end X1I
