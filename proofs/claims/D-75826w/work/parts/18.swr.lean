/-! rows over the State's world, with the pure function's hypothesis threaded -/
section SWR
variable {p : Program} {l : Launch} {e : Env} {R : Room} {s : State} {m : MethodId} {args : Array Value} {below : List Frame} {meth : Method} {c : Code} {H : Heap} {locs : List Loc} {cells slots : Nat} {Q : State → Prop}
variable {cc : ByteArray} {pc : Nat} {ls : Array Slot} {rest : List Value} {A : Nat → Prop} {L0 n nL : Nat} {g : gNum} {own : String} {rm : Room} {γ : Type} {o : γ} {lv : List (Nat × Value)}
variable {b d u : Nat} {sc : SC} {su : SU} {σ : SS} {G0 : GH} {i : Int32}
theorem s_putI (hF : gXK p m c cc nL s args own g A R rm) (hL0 : L0 ≤ b) (hG : gJK g L0 A s.heap (sG g.2.1 b d u sc σ G0) n H locs) (k : Nat) {index : Nat} (hk : 13 ≤ k ∧ k ≤ 25) (hty : tyX2 k = .int ∧ (TX2 k).2.2.2 = false ∧ (TX2 k).1 = RX2) (hlink : (Cond.fieldLink own index RX2 (TX2 k).2.1 (TX2 k).2.2.1) ∈ lw_all) {v : Int32} {f : SS → Option γ} (h : nm (S_sf σ k v) f = some o) (hdg : decode cc pc = .ok (.putfield index, 3))
    (kk : ∀ (σ' : SS) (H1 : Heap) (locs1 : List Loc), f σ' = some o → gJK g L0 A s.heap (sG g.2.1 b d u sc σ' G0) n H1 locs1 → W p l e R s m args below meth c H1 locs1 cells slots Q (F0 m (pc + 3) ls rest)) : W p l e R s m args below meth c H locs cells slots Q (F0 m pc ls (.int v :: .ref b :: rest)) := by
  refine g_put hF hG sG_0 hL0 (C := RX2) (T := TX2) (N := 26) rfl in_X2 tyX2 tyX2_ok nmX2 k (by omega) hlink (fun x h => by rw [hty.2.2] at h; exact h) hty.2.1 (by rw [hty.1]; rfl) (by rw [hty.1]; rfl) (by show k < 26; omega) hdg (fun H1 locs1 hG1 => ?_)
  rw [sG_sf0 hk] at hG1
  exact kk _ H1 locs1 h hG1
theorem s_putZ (hF : gXK p m c cc nL s args own g A R rm) (hL0 : L0 ≤ b) (hG : gJK g L0 A s.heap (sG g.2.1 b d u sc σ G0) n H locs) {index : Nat} (hlink : (Cond.fieldLink own index RX2 (TX2 25).2.1 (TX2 25).2.2.1) ∈ lw_all) {v : Int32} {f : SS → Option γ} (h : gd (v = 0 ∨ v = 1) (nm (S_sf σ 25 v) f) = some o) (hdg : decode cc pc = .ok (.putfield index, 3))
    (kk : ∀ (σ' : SS) (H1 : Heap) (locs1 : List Loc), f σ' = some o → gJK g L0 A s.heap (sG g.2.1 b d u sc σ' G0) n H1 locs1 → W p l e R s m args below meth c H1 locs1 cells slots Q (F0 m (pc + 3) ls rest)) : W p l e R s m args below meth c H locs cells slots Q (F0 m pc ls (.int v :: .ref b :: rest)) := by
  obtain ⟨hv, h⟩ := gd_e h
  refine g_put hF hG sG_0 hL0 (C := RX2) (T := TX2) (N := 26) rfl in_X2 tyX2 tyX2_ok nmX2 25 (by decide) hlink (fun x h => h) rfl (by rcases hv with rfl | rfl <;> decide) (by rcases hv with rfl | rfl <;> decide) (by show 25 < 26; decide) hdg (fun H1 locs1 hG1 => ?_)
  rw [sG_sf0 (by decide)] at hG1
  exact kk _ H1 locs1 h hG1
theorem s_putW (hF : gXK p m c cc nL s args own g A R rm) (hL0 : L0 ≤ b) (hG : gJK g L0 A s.heap (sG g.2.1 b d u sc σ G0) n H locs) {index : Nat} (hlink : (Cond.fieldLink own index RX5 (TX5 3).2.1 (TX5 3).2.2.1) ∈ lw_all) {v : Int32} {f : SS → Option γ} (h : nm (S_sf σ 32 v) f = some o) (hdg : decode cc pc = .ok (.putfield index, 3))
    (kk : ∀ (σ' : SS) (H1 : Heap) (locs1 : List Loc), f σ' = some o → gJK g L0 A s.heap (sG g.2.1 b d u sc σ' G0) n H1 locs1 → W p l e R s m args below meth c H1 locs1 cells slots Q (F0 m (pc + 3) ls rest)) : W p l e R s m args below meth c H locs cells slots Q (F0 m pc ls (.int v :: .ref (b + d + 14) :: rest)) := by
  refine g_put hF hG sG_14 (by omega) (C := RX5) (T := TX5) (N := 5) rfl in_X5 tyX5 tyX5_ok nmX5 3 (by decide) hlink (fun x h => h) rfl rfl rfl (Nat.le_of_ble_eq_true rfl) hdg (fun H1 locs1 hG1 => ?_)
  have e := sG_sf14 (dA := g.2.1) (b := b) (d := d) (u := u) (sc := sc) (σ := σ) (G0 := G0) (v := v)
  exact kk _ H1 locs1 h (e ▸ hG1)
theorem s_putWN {host : String} (hF : gXK p m c cc nL s args own g A R rm) (hL0 : L0 ≤ b) (hG : gJK g L0 A s.heap (sG g.2.1 b d u sc σ G0) n H locs) {index : Nat} (hlink : (Cond.fieldLinkNest own index RX5 (TX5 3).2.1 (TX5 3).2.2.1 host) ∈ lw_tbl) {v : Int32} {f : SS → Option γ} (h : nm (S_sf σ 32 v) f = some o) (hdg : decode cc pc = .ok (.putfield index, 3))
    (kk : ∀ (σ' : SS) (H1 : Heap) (locs1 : List Loc), f σ' = some o → gJK g L0 A s.heap (sG g.2.1 b d u sc σ' G0) n H1 locs1 → W p l e R s m args below meth c H1 locs1 cells slots Q (F0 m (pc + 3) ls rest)) : W p l e R s m args below meth c H locs cells slots Q (F0 m pc ls (.int v :: .ref (b + d + 14) :: rest)) := by
  refine g_putN hF hG sG_14 (by omega) (C := RX5) (T := TX5) (N := 5) rfl in_X5 tyX5 tyX5_ok nmX5 3 (by decide) hlink (fun x h => h) rfl rfl rfl (Nat.le_of_ble_eq_true rfl) hdg (fun H1 locs1 hG1 => ?_)
  have e := sG_sf14 (dA := g.2.1) (b := b) (d := d) (u := u) (sc := sc) (σ := σ) (G0 := G0) (v := v)
  exact kk _ H1 locs1 h (e ▸ hG1)
theorem s_putO9N {host : String} (hF : gXK p m c cc nL s args own g A R rm) (hL0 : L0 ≤ b) (hG : gJK g L0 A s.heap (sG g.2.1 b d u sc σ G0) n H locs) {index : Nat} (hlink : (Cond.fieldLinkNest own index RX4 (TX4 1).2.1 (TX4 1).2.2.1 host) ∈ lw_tbl) {v : Int32} {f : SS → Option γ} (h : nm (S_sf σ 30 v) f = some o) (hdg : decode cc pc = .ok (.putfield index, 3))
    (kk : ∀ (σ' : SS) (H1 : Heap) (locs1 : List Loc), f σ' = some o → gJK g L0 A s.heap (sG g.2.1 b d u sc σ' G0) n H1 locs1 → W p l e R s m args below meth c H1 locs1 cells slots Q (F0 m (pc + 3) ls rest)) : W p l e R s m args below meth c H locs cells slots Q (F0 m pc ls (.int v :: .ref (b + d + 9) :: rest)) := by
  refine g_putN hF hG sG_9 (by omega) (C := RX4) (T := TX4) (N := 2) rfl in_X4 tyX4 tyX4_ok nmX4 1 (by decide) hlink (fun x h => h) rfl rfl rfl (Nat.le_of_ble_eq_true rfl) hdg (fun H1 locs1 hG1 => ?_)
  have e := sG_sf9 (dA := g.2.1) (b := b) (d := d) (u := u) (sc := sc) (σ := σ) (G0 := G0) (v := v)
  exact kk _ H1 locs1 h (e ▸ hG1)
theorem s_putO11N {host : String} (hF : gXK p m c cc nL s args own g A R rm) (hL0 : L0 ≤ b) (hG : gJK g L0 A s.heap (sG g.2.1 b d u sc σ G0) n H locs) {index : Nat} (hlink : (Cond.fieldLinkNest own index RX4 (TX4 1).2.1 (TX4 1).2.2.1 host) ∈ lw_tbl) {v : Int32} {f : SS → Option γ} (h : nm (S_sf σ 31 v) f = some o) (hdg : decode cc pc = .ok (.putfield index, 3))
    (kk : ∀ (σ' : SS) (H1 : Heap) (locs1 : List Loc), f σ' = some o → gJK g L0 A s.heap (sG g.2.1 b d u sc σ' G0) n H1 locs1 → W p l e R s m args below meth c H1 locs1 cells slots Q (F0 m (pc + 3) ls rest)) : W p l e R s m args below meth c H locs cells slots Q (F0 m pc ls (.int v :: .ref (b + d + 11) :: rest)) := by
  refine g_putN hF hG sG_11 (by omega) (C := RX4) (T := TX4) (N := 2) rfl in_X4 tyX4 tyX4_ok nmX4 1 (by decide) hlink (fun x h => h) rfl rfl rfl (Nat.le_of_ble_eq_true rfl) hdg (fun H1 locs1 hG1 => ?_)
  have e := sG_sf11 (dA := g.2.1) (b := b) (d := d) (u := u) (sc := sc) (σ := σ) (G0 := G0) (v := v)
  exact kk _ H1 locs1 h (e ▸ hG1)
theorem s_rd (hF : gXK p m c cc nL s args own g A R rm) (hG : gJK g L0 A s.heap (sG g.2.1 b d u sc σ G0) n H locs) {j : Nat} (hj : sI j) {f : Int32 → Option γ} (h : ob1 (S_rd σ j i) f = some o) (hdg : decode cc pc = .ok (.iaload, 1))
    (kk : ∀ v : Int32, f v = some o → W p l e R s m args below meth c H locs cells slots Q (F0 m (pc + 1) ls (.int v :: rest))) : W p l e R s m args below meth c H locs cells slots Q (F0 m pc ls (.int i :: .ref (b + d + j) :: rest)) := by
  obtain ⟨v, hv, h⟩ := ob1_e h
  obtain ⟨h1, rfl⟩ := S_rd_e hv
  exact g_iald hF hG (sG_arr hj) 0 rfl h1 hdg (kk _ h)
theorem s_wr (hF : gXK p m c cc nL s args own g A R rm) (hL0 : L0 ≤ b) (hG : gJK g L0 A s.heap (sG g.2.1 b d u sc σ G0) n H locs) {j : Nat} (hj : sI j) {v : Int32} {f : SS → Option γ} (h : ob1 (S_wr σ j i v) f = some o) (hdg : decode cc pc = .ok (.iastore, 1))
    (kk : ∀ (σ' : SS) (H1 : Heap) (locs1 : List Loc), f σ' = some o → gJK g L0 A s.heap (sG g.2.1 b d u sc σ' G0) n H1 locs1 → W p l e R s m args below meth c H1 locs1 cells slots Q (F0 m (pc + 1) ls rest)) : W p l e R s m args below meth c H locs cells slots Q (F0 m pc ls (.int v :: .int i :: .ref (b + d + j) :: rest)) := by
  obtain ⟨σ', hv, h⟩ := ob1_e h
  obtain ⟨h1, rfl⟩ := S_wr_e hv
  refine g_iast hF hG (sG_arr hj) (by omega) 0 rfl h1 hdg (fun H1 locs1 hG1 => ?_)
  rw [sG_sA hj] at hG1
  exact kk _ H1 locs1 h hG1
/-- System.arraycopy of ints -/
theorem g_copyi (hF : gXK p m c cc nL s args own g A R rm) {G : GH} (hG : gJK g L0 A s.heap G n H locs) (hl : lv_has ls nL lv) {a a0 : Nat} {index : Nat} (hlink : (Cond.methodLink own index arraycopyName) ∈ lw_all) {n0 n1 : Nat} {f h0 : Nat → Int32} (ha0 : G a0 = some (.inl (g.2.1 0, n0, .inl f))) (ha1 : G a = some (.inl (g.2.1 0, n1, .inl h0))) (hL : L0 ≤ a) {sp dp k : Int32} {F : (Nat → Int32) → Option γ} (h : ob1 (cpF n0 n1 f h0 sp dp k) F = some o) (hfr : 1 ≤ rm.frames) (hlo : (rest.map fun v => v.category).sum + (nativeFrameWords "java/lang/System" "arraycopy" 5 + 11) ≤ rm.locals) (hdg : decode cc pc = .ok (.invokestatic index, 3))
    (kk : ∀ (r : Nat → Int32) (H1 : Heap) (locs1 : List Loc), F r = some o → gJK g L0 A s.heap (gU G a (.inl (g.2.1 0, n1, .inl r))) n H1 locs1 → W p l e R s m args below meth c H1 locs1 cells slots Q (F0 m (pc + 3) ls rest)) : W p l e R s m args below meth c H locs cells slots Q (F0 m pc ls (.int k :: .int dp :: .ref a :: .int sp :: .ref a0 :: rest)) := by
  obtain ⟨r, hr, h⟩ := ob1_e h
  obtain ⟨h1, h2, h3, h4, h5, rfl⟩ := cpF_e hr
  have hframes : 1 ≤ R.frames := by rw [hF.2.2.2.2]; exact hfr
  have hlocals : (rest.map fun v => v.category).sum + (nativeFrameWords "java/lang/System" "arraycopy" 5 + 11) ≤ R.locals := by rw [hF.2.2.2.2]; exact hlo
  obtain ⟨⟨hx, hb, hml, hown, hts⟩, hK, -⟩ := hF
  have nn : ∀ z : Int32, ¬ z < 0 → z.toInt = (z.toNatClampNeg : Int) := by
    intro z hz
    have hz0 : (0 : Int) ≤ z.toInt := by
      have := Int32.not_lt.mp hz
      simpa using Int32.le_iff_toInt_le.mp this
    show z.toInt = ((z.toInt.toNat : Nat) : Int)
    omega
  intro T hT X
  have hc0 : H[a0]? = some (vp_cell (g.2.1 0) (n0, .inl f)) := hG.1 a0 _ ha0
  have hc1 : H[a]? = some (vp_cell (g.2.1 0) (n1, .inl h0)) := hG.1 a _ ha1
  obtain ⟨-, k0, hk0, cm0, hkk0⟩ := (hK.2 0 _ rfl).1 n0 (fun j => .int (f j))
  obtain ⟨-, k1, hk1, cm1, hkk1⟩ := (hK.2 0 _ rfl).1 n1 (fun j => .int (h0 j))
  obtain ⟨vm', X', step⟩ := X.arraycopy hx hown (hts _ hlink) (hts _ q278) (hts _ q277) (hts _ q99) (src := a0) (dst := a) (cs := vp_cell (g.2.1 0) (n0, .inl f)) (cd := vp_cell (g.2.1 0) (n1, .inl h0)) (srcPos := sp) (destPos := dp) (n := k) (by rw [hT]; exact hc0) (by rw [hT]; exact hc1)
    (fun _ h => by cases h) (fun _ h => by cases h) (fun h => by cases h) (fun h => by cases h) hk0 hk1 hkk0 hkk1 (by simp [refKind]) h1 h2 h3
    (by rw [nn sp h1, nn k h3]; show ¬ _ > ((arrV (g.2.1 0) n0 (fun j => .int (f j))).slots.size : Int); rw [arrV_size]; omega)
    (by rw [nn dp h2, nn k h3]; show ¬ _ > ((arrV (g.2.1 0) n1 (fun j => .int (h0 j))).slots.size : Int); rw [arrV_size]; omega)
    (fun vm₁ _ i hi => by
      have e : (vp_cell (g.2.1 0) (n0, .inl f)).slots.getD (sp.toNatClampNeg + i) .null = .int (f (sp.toNatClampNeg + i)) := by
        show (arrV (g.2.1 0) n0 (fun j => .int (f j))).slots.getD _ _ = _
        rw [Array.getD_eq_getD_getElem?, arrV_read _ _ (by omega)]
        rfl
      refine ⟨?_, ?_⟩
      · rw [e]
        rfl
      · rw [e]
        exact trivial)
    (g := F0 m pc ls (.int k :: .int dp :: .ref a :: .int sp :: .ref a0 :: rest)) rfl (by rw [hml]; exact hl.1) (rest := rest) rfl (by rw [hb]; exact hdg) hframes (by show 2 * 0 + _ + _ ≤ _; omega)
  have e1 : copied (vp_cell (g.2.1 0) (n0, .inl f)) (vp_cell (g.2.1 0) (n1, .inl h0)) sp dp k = vp_cell (g.2.1 0) (n1, .inl (va_cpy f h0 sp.toNatClampNeg dp.toNatClampNeg k.toNatClampNeg)) := va_copied (fun z => .int z) (g.2.1 0) (g.2.1 0) f h0 h4
  rw [e1] at X' step
  have hlt : a < H.size := (Array.getElem?_eq_some_iff.mp hc1).1
  have hheap : ((T.setVm vm').setCell a (vp_cell (g.2.1 0) (n1, .inl (va_cpy f h0 sp.toNatClampNeg dp.toNatClampNeg k.toNatClampNeg)))).heap = H.setIfInBounds a (vp_cell (g.2.1 0) (n1, .inl (va_cpy f h0 sp.toNatClampNeg dp.toNatClampNeg k.toNatClampNeg))) := by rw [← hT]; rfl
  have oq : ∀ q : Nat, q ≠ a → (H.setIfInBounds a (vp_cell (g.2.1 0) (n1, .inl (va_cpy f h0 sp.toNatClampNeg dp.toNatClampNeg k.toNatClampNeg))))[q]? = H[q]? := fun q hq => by simp [Array.getElem?_setIfInBounds, Ne.symm hq]
  have hP := hG.put (k := 0) (e := .inl (g.2.1 0, n1, .inl (va_cpy f h0 sp.toNatClampNeg dp.toNatClampNeg k.toNatClampNeg))) (H1 := H.setIfInBounds a (vp_cell (g.2.1 0) (n1, .inl (va_cpy f h0 sp.toNatClampNeg dp.toNatClampNeg k.toNatClampNeg)))) ha1 hL (show (H.setIfInBounds a _)[a]? = some _ by simp [Array.getElem?_setIfInBounds, hlt]) (by simp) oq
  obtain ⟨t, a1, b1⟩ := kk _ (H.setIfInBounds a (vp_cell (g.2.1 0) (n1, .inl (va_cpy f h0 sp.toNatClampNeg dp.toNatClampNeg k.toNatClampNeg)))) _ h ⟨hP.1, hP.2.1, ⟨hP.2.2.1.1, hP.2.2.1.2.1, fun q hq => by
      rcases List.mem_append.mp hq with h | h
      · exact hG.2.2.1.2.2 q h
      · obtain ⟨z, -, hz⟩ := List.mem_map.mp h
        rw [← hz]
        exact hG.2.1 a _ ha1 hL⟩, hP.2.2.2⟩ _ hheap X'
  exact ⟨t, step t a1, b1⟩
theorem s_cp (hF : gXK p m c cc nL s args own g A R rm) (hL0 : L0 ≤ b) (hG : gJK g L0 A s.heap (sG g.2.1 b d u sc σ G0) n H locs) (hl : lv_has ls nL lv) {index : Nat} (hlink : (Cond.methodLink own index arraycopyName) ∈ lw_all) {j0 j1 : Nat} (hj0 : sI j0) (hj1 : sI j1) {sp dp k : Int32} {F : SS → Option γ} (h : ob1 (cpF (sL j0) (sL j1) (σ.2 j0) (σ.2 j1) sp dp k) (fun r => nm (S_sA σ j1 r) F) = some o) (hfr : 1 ≤ rm.frames) (hlo : (rest.map fun v => v.category).sum + (nativeFrameWords "java/lang/System" "arraycopy" 5 + 11) ≤ rm.locals) (hdg : decode cc pc = .ok (.invokestatic index, 3))
    (kk : ∀ (σ' : SS) (H1 : Heap) (locs1 : List Loc), F σ' = some o → gJK g L0 A s.heap (sG g.2.1 b d u sc σ' G0) n H1 locs1 → W p l e R s m args below meth c H1 locs1 cells slots Q (F0 m (pc + 3) ls rest)) : W p l e R s m args below meth c H locs cells slots Q (F0 m pc ls (.int k :: .int dp :: .ref (b + d + j1) :: .int sp :: .ref (b + d + j0) :: rest)) := by
  refine g_copyi hF hG hl hlink (sG_arr hj0) (sG_arr hj1) (by omega) h hfr hlo hdg (fun r H1 locs1 h hG1 => ?_)
  rw [sG_sA hj1] at hG1
  exact kk _ H1 locs1 h hG1
theorem g_max (hF : gXK p m c cc nL s args own g A R rm) (hl : lv_has ls nL lv) {index : Nat} (hlink : (Cond.methodLink own index Lib.Math.max.name) ∈ lw_all) (hfr : 1 ≤ rm.frames) (hlo : (rest.map fun v => v.category).sum + 13 ≤ rm.locals) (hc : cells ≤ rm.cells ∧ slots ≤ rm.slots) {x y : Int32} (hdg : decode cc pc = .ok (.invokestatic index, 3))
    (kk : W p l e R s m args below meth c H locs cells slots Q (F0 m (pc + 3) ls (.int (if x < y then y else x) :: rest))) : W p l e R s m args below meth c H locs cells slots Q (F0 m pc ls (.int y :: .int x :: rest)) := by
  obtain ⟨⟨hx, hb, hml, hown, hts⟩, -, -, -, hR⟩ := hF
  exact va_mmax hx hb (by rw [hml]; exact hl.1.symm) hown (hts _ hlink) (hts _ q256) (hts _ q97) (hts _ q257) (by rw [hR]; exact hfr) (by rw [hR]; exact hlo) (by rw [hR]; exact hc.1) (by rw [hR]; exact hc.2) hdg kk
/-- a static call of a nest mate's private method -/
theorem g_callSN {y : MethodName} {bytes : ByteArray} {maxL mc ms k index fr lo : Nat} {ret : Option FieldType} {ws : List Cond} {As st0 : List Value} {RR : Option Value → GH → Nat → Prop} {G : GH} {host : String} (hF : gXK p m c cc nL s args own g A R rm) (hG : gJK g L0 A s.heap G n H locs) (hl : lv_has ls nL lv) (hM : gMet l y ws g.1 clX L0 (gK g) As G n fr lo mc ms RR) (cw : va_CN R s args own index y host bytes maxL ret ws ({ frames := fr, cells := mc, slots := ms, locals := lo } : Room) mc ms k ∧ (Cond.static y).before args s = true ∧ True) (hn : As.length = k) (hstack : st0 = As.reverse ++ rest) (hW : (rest.map fun v => v.category).sum ≤ 8) (hdg : decode cc pc = .ok (.invokestatic index, 3)) (hf : cells + mc ≤ R.cells ∧ slots + ms ≤ R.slots)
    (kk : ∀ (v : Option Value) (G' : GH) (n' : Nat) (H' : Heap) (locs' : List Loc), RR v G' n' → gJK g L0 A s.heap G' n' H' locs' → W p l e R s m args below meth c H' locs' (cells + mc) (slots + ms) Q (F0 m (pc + 3) ls (v.toList ++ rest))) : W p l e R s m args below meth c H locs cells slots Q (F0 m pc ls st0) :=
  g_call (va_runSN hF.1 hM cw ⟨gPc_blind hF.2.2.1, g_pre hF hG _⟩ rfl hn hl.1 hstack (lv_room hW) hdg hf) hG kk
theorem g_callIN {y : MethodName} {bytes : ByteArray} {maxL mc ms k index fr lo a : Nat} {ws : List Cond} {As st0 : List Value} {RR : Option Value → GH → Nat → Prop} {G : GH} {host : String} (hF : gXK p m c cc nL s args own g A R rm) (hG : gJK g L0 A s.heap G n H locs) (hl : lv_has ls nL lv) (hM : gMet l y ws g.1 clX L0 (gK g) (.ref a :: As) G n fr lo mc ms RR) (cw : va_CN R s args own index y host bytes maxL none ws ({ frames := fr, cells := mc, slots := ms, locals := lo } : Room) mc ms k ∧ y.name = "<init>" ∧ (Cond.instanceMethod y).before args s = true) (hn : As.length = k) (hstack : st0 = As.reverse ++ .ref a :: rest) (hW : (rest.map fun v => v.category).sum ≤ 8) (hdg : decode cc pc = .ok (.invokespecial index, 3)) (hf : cells + mc ≤ R.cells ∧ slots + ms ≤ R.slots)
    (kk : ∀ (v : Option Value) (G' : GH) (n' : Nat) (H' : Heap) (locs' : List Loc), RR v G' n' → gJK g L0 A s.heap G' n' H' locs' → W p l e R s m args below meth c H' locs' (cells + mc) (slots + ms) Q (F0 m (pc + 3) ls (v.toList ++ rest))) : W p l e R s m args below meth c H locs cells slots Q (F0 m pc ls st0) :=
  g_call (va_runIN hF.1 hM cw ⟨gPc_blind hF.2.2.1, g_pre hF hG _⟩ rfl hn hl.1 hstack (lv_room hW) hdg hf) hG kk
end SWR
