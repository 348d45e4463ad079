/-! THE TWIN'S WORLD: BlackoutStartModel at b, its 17 arrays at b+1 .. b+17; a state: its int fields by number, its arrays by place -/
abbrev TS : Type := (Nat → Int32) × (Nat → Nat → Int32)
def twF (k : Nat) : Nat := match k with | 5 => 1 | 6 => 2 | 7 => 3 | 8 => 4 | 9 => 5 | 10 => 6 | 11 => 7 | 12 => 8 | 13 => 9 | 14 => 10 | 16 => 11 | 17 => 12 | 18 => 13 | 19 => 14 | 20 => 15 | 21 => 16 | 22 => 17 | _ => 0
def twL (j : Nat) : Nat := match j with | 1 => 48 | 2 => 12 | 3 => 24 | 4 => 8 | 5 => 96 | 6 => 411 | 7 => 411 | 8 => 3288 | 9 => 822 | 10 => 2 | 11 => 900 | 12 => 411 | 13 => 48 | 14 => 12 | 15 => 24 | 16 => 8 | 17 => 96 | _ => 0
def twV (b : Nat) (σ : TS) (k : Nat) : Value := if twF k = 0 then .int (σ.1 k) else .ref (b + twF k)
def tvs (b : Nat) (σ : TS) : List Value := (List.range 35).map (twV b σ)
def twE (dA : Nat → ClassId) (b : Nat) (σ : TS) (j : Nat) : va_E := if j = 0 then .inr (5, tvs b σ) else .inl (if j = 10 then dA 2 else dA 0, twL j, .inl (σ.2 j))
def twG (dA : Nat → ClassId) (b : Nat) (σ : TS) (G0 : GH) : GH := fun q => if b ≤ q ∧ q ≤ b + 17 then some (twE dA b σ (q - b)) else G0 q
abbrev twI (j : Nat) : Prop := 1 ≤ j ∧ j ≤ 17 ∧ j ≠ 10
def T_sf (σ : TS) (k : Nat) (v : Int32) : TS := (upd σ.1 k v, σ.2)
def T_sa (σ : TS) (j i : Nat) (v : Int32) : TS := (σ.1, fun j' => if j' = j then upd (σ.2 j) i v else σ.2 j')
def T_rd (σ : TS) (j : Nat) (i : Int32) : Option Int32 := if i < 0 ∨ twL j ≤ i.toNatClampNeg then none else some (σ.2 j i.toNatClampNeg)
def T_wr (σ : TS) (j : Nat) (i v : Int32) : Option TS := if i < 0 ∨ twL j ≤ i.toNatClampNeg then none else some (T_sa σ j i.toNatClampNeg v)
def T_wz (σ : TS) (i v : Int32) : Option TS := T_wr σ 10 i (vp_nar .boolean v)
theorem T_rd_e {σ : TS} {j : Nat} {i v : Int32} (h : T_rd σ j i = some v) : vp_in i (twL j) ∧ σ.2 j i.toNatClampNeg = v := by
  unfold T_rd at h
  split at h
  next => cases h
  next hn => exact ⟨hn, Option.some.inj h⟩
theorem T_wr_e {σ σ' : TS} {j : Nat} {i v : Int32} (h : T_wr σ j i v = some σ') : vp_in i (twL j) ∧ T_sa σ j i.toNatClampNeg v = σ' := by
  unfold T_wr at h
  split at h
  next => cases h
  next hn => exact ⟨hn, Option.some.inj h⟩
section TW
variable {dA : Nat → ClassId} {b : Nat} {σ : TS} {G0 : GH}
theorem twG_obj : twG dA b σ G0 b = some (.inr (5, tvs b σ)) := by
  unfold twG
  rw [if_pos ⟨Nat.le_refl _, Nat.le_add_right _ _⟩, Nat.sub_self]
  rfl
theorem twG_arr {j : Nat} (hj : twI j) : twG dA b σ G0 (b + j) = some (.inl (dA 0, twL j, .inl (σ.2 j))) := by
  obtain ⟨h1, h2, h3⟩ := hj
  unfold twG
  rw [if_pos ⟨Nat.le_add_right _ _, Nat.add_le_add_left h2 _⟩, Nat.add_sub_cancel_left]
  unfold twE
  rw [if_neg (by omega), if_neg h3]
theorem twG_z : twG dA b σ G0 (b + 10) = some (.inl (dA 2, 2, .inl (σ.2 10))) := by
  unfold twG
  rw [if_pos ⟨Nat.le_add_right _ _, Nat.add_le_add_left (by decide) _⟩, Nat.add_sub_cancel_left]
  rfl
theorem twG_at {j : Nat} (h2 : j ≤ 17) : twG dA b σ G0 (b + j) = some (twE dA b σ j) := by
  unfold twG
  rw [if_pos ⟨Nat.le_add_right _ _, Nat.add_le_add_left h2 _⟩, Nat.add_sub_cancel_left]
theorem tvs_get {k : Nat} (hk : k < 35) : (tvs b σ)[k]? = some (twV b σ k) := by
  unfold tvs
  rw [List.getElem?_map, List.getElem?_range hk]
  rfl
theorem tvs_len : (tvs b σ).length = 35 := by simp [tvs]
theorem tvs_set {k : Nat} {v : Int32} (hk : twF k = 0) : (tvs b σ).set k (.int v) = tvs b (T_sf σ k v) := by
  apply List.ext_getElem?
  intro i
  by_cases hi : i < 35
  · rw [tvs_get hi, List.getElem?_set]
    by_cases hik : k = i
    · subst hik
      rw [if_pos rfl, if_pos (by rw [tvs_len]; exact hi)]
      simp [twV, hk, T_sf, upd]
    · rw [if_neg hik, tvs_get hi]
      simp [twV, T_sf, upd, Ne.symm hik]
      try rw [if_neg (Ne.symm hik)]
  · rw [List.getElem?_eq_none (by simp [tvs]; omega), List.getElem?_eq_none (by simp [tvs]; omega)]
theorem twE_sf0 {k : Nat} {v : Int32} : ∀ j : Nat, j ≠ 0 → twE dA b (T_sf σ k v) j = twE dA b σ j := by
  intro j hj
  unfold twE
  rw [if_neg hj, if_neg hj]
  rfl
theorem twG_sf {k : Nat} {v : Int32} (hk : twF k = 0) : gU (twG dA b σ G0) b (.inr (5, (tvs b σ).set k (.int v))) = twG dA b (T_sf σ k v) G0 := by
  funext q
  by_cases hq : q = b
  · subst hq
    rw [gU_s, twG_obj, tvs_set hk]
  · rw [gU_n hq]
    unfold twG
    split
    next h => rw [twE_sf0 _ (by omega)]
    next h => rfl
theorem tvs_sa {j i : Nat} {v : Int32} : tvs b (T_sa σ j i v) = tvs b σ := rfl
theorem twG_sa {j i : Nat} {v : Int32} (h1 : 1 ≤ j) (h2 : j ≤ 17) : gU (twG dA b σ G0) (b + j) (.inl (if j = 10 then dA 2 else dA 0, twL j, .inl (upd (σ.2 j) i v))) = twG dA b (T_sa σ j i v) G0 := by
  funext q
  by_cases hq : q = b + j
  · subst hq
    rw [gU_s, twG_at h2]
    unfold twE
    rw [if_neg (show ¬ j = 0 by omega)]
    simp [T_sa]
  · rw [gU_n hq]
    unfold twG
    split
    next h =>
      have h3 : q - b ≠ j := by omega
      unfold twE
      rw [tvs_sa]
      split
      next => rfl
      next => simp [T_sa, h3]
    next h => rfl
end TW
/-- what a method of the twin says at its end -/
abbrev twRI (dA : Nat → ClassId) (b : Nat) (σ : TS) (G0 : GH) (sz : Nat) (r : Int32) : Option Value → GH → Nat → Prop := fun v G n => v = some (.int r) ∧ G = twG dA b σ G0 ∧ n = sz
abbrev twRV (dA : Nat → ClassId) (b : Nat) (σ : TS) (G0 : GH) (sz : Nat) : Option Value → GH → Nat → Prop := fun v G n => v = none ∧ G = twG dA b σ G0 ∧ n = sz
abbrev twRD (dA : Nat → ClassId) (b : Nat) (σ : TS) (G0 : GH) (sz : Nat) (r : UInt64) : Option Value → GH → Nat → Prop := fun v G n => v = some (.double r) ∧ G = twG dA b σ G0 ∧ n = sz
section TWR
variable {p : Program} {l : Launch} {e : Env} {R : Room} {s : State} {m : MethodId} {args : Array Value} {below : List Frame} {meth : Method} {c : Code} {H : Heap} {locs : List Loc} {cells slots : Nat} {Q : State → Prop}
variable {cc : ByteArray} {pc : Nat} {ls : Array Slot} {rest : List Value} {D : va_G} {A : Nat → Prop} {L0 n nL : Nat} {K : gKT} {own : String} {rm : Room}
variable {dA : Nat → ClassId} {b : Nat} {σ : TS} {G0 : GH}
theorem tw_getI (hF : gX p m c cc nL s args RX6 D clX (tyA dA) K A R rm) (hG : gJ D clX L0 A s.heap (twG dA b σ G0) n H locs) (k : Nat) {index : Nat} (hk : twF k = 0 ∧ k < 35) (hlink : (Cond.fieldLink RX6 index RX6 (TX6 k).2.1 (TX6 k).2.2.1) ∈ lw_all) (hcl : (TX6 k).1 = RX6) (hdg : decode cc pc = .ok (.getfield index, 3))
    (kk : W p l e R s m args below meth c H locs cells slots Q (F0 m (pc + 3) ls (.int (σ.1 k) :: rest))) : W p l e R s m args below meth c H locs cells slots Q (F0 m pc ls (.ref b :: rest)) :=
  g_get hF hG twG_obj (C := RX6) (T := TX6) (N := 35) rfl in_X6 k hk.2 hlink (fun x h => by rw [hcl] at h; exact h) (by rw [tvs_get hk.2, twV, if_pos hk.1]) hdg kk
theorem tw_getR (hF : gX p m c cc nL s args RX6 D clX (tyA dA) K A R rm) (hG : gJ D clX L0 A s.heap (twG dA b σ G0) n H locs) (k j : Nat) {index : Nat} (hk : twF k = j ∧ j ≠ 0 ∧ k < 35) (hlink : (Cond.fieldLink RX6 index RX6 (TX6 k).2.1 (TX6 k).2.2.1) ∈ lw_all) (hcl : (TX6 k).1 = RX6) (hdg : decode cc pc = .ok (.getfield index, 3))
    (kk : W p l e R s m args below meth c H locs cells slots Q (F0 m (pc + 3) ls (.ref (b + j) :: rest))) : W p l e R s m args below meth c H locs cells slots Q (F0 m pc ls (.ref b :: rest)) :=
  g_get hF hG twG_obj (C := RX6) (T := TX6) (N := 35) rfl in_X6 k hk.2.2 hlink (fun x h => by rw [hcl] at h; exact h) (by rw [tvs_get hk.2.2, twV, if_neg (by rw [hk.1]; exact hk.2.1), hk.1]) hdg kk
theorem tw_putI (hF : gX p m c cc nL s args RX6 D clX (tyA dA) K A R rm) (hL0 : L0 ≤ b) (hG : gJ D clX L0 A s.heap (twG dA b σ G0) n H locs) (k : Nat) {index : Nat} (hk : twF k = 0 ∧ k < 35 ∧ (TX6 k).2.2.2 = false ∧ tyX6 k = .int) (hlink : (Cond.fieldLink RX6 index RX6 (TX6 k).2.1 (TX6 k).2.2.1) ∈ lw_all) (hcl : (TX6 k).1 = RX6) {v : Int32} {γ : Type} {f : TS → Option γ} {o : γ} (h : nm (T_sf σ k v) f = some o) (hdg : decode cc pc = .ok (.putfield index, 3))
    (kk : ∀ (σ' : TS) (H1 : Heap) (locs1 : List Loc), f σ' = some o → gJ D clX L0 A s.heap (twG dA b σ' G0) n H1 locs1 → W p l e R s m args below meth c H1 locs1 cells slots Q (F0 m (pc + 3) ls rest)) : W p l e R s m args below meth c H locs cells slots Q (F0 m pc ls (.int v :: .ref b :: rest)) := by
  refine g_put hF hG twG_obj hL0 (C := RX6) (T := TX6) (N := 35) rfl in_X6 tyX6 tyX6_ok nmX6 k hk.2.1 hlink (fun x h => by rw [hcl] at h; exact h) hk.2.2.1 (by rw [hk.2.2.2]; rfl) (by rw [hk.2.2.2]; rfl) (by rw [tvs_len]; exact hk.2.1) hdg (fun H1 locs1 hG1 => ?_)
  rw [twG_sf hk.1] at hG1
  exact kk _ H1 locs1 h hG1
theorem tw_rd (hF : gX p m c cc nL s args own D clX (tyA dA) K A R rm) (hG : gJ D clX L0 A s.heap (twG dA b σ G0) n H locs) {j : Nat} (hj : twI j) {i : Int32} {γ : Type} {f : Int32 → Option γ} {o : γ} (h : ob1 (T_rd σ j i) f = some o) (hdg : decode cc pc = .ok (.iaload, 1))
    (kk : ∀ v : Int32, f v = some o → W p l e R s m args below meth c H locs cells slots Q (F0 m (pc + 1) ls (.int v :: rest))) : W p l e R s m args below meth c H locs cells slots Q (F0 m pc ls (.int i :: .ref (b + j) :: rest)) := by
  obtain ⟨v, hv, h⟩ := ob1_e h
  obtain ⟨h1, rfl⟩ := T_rd_e hv
  exact g_iald hF hG (twG_arr hj) 0 rfl h1 hdg (kk _ h)
theorem tw_rz (hF : gX p m c cc nL s args own D clX (tyA dA) K A R rm) (hG : gJ D clX L0 A s.heap (twG dA b σ G0) n H locs) {i : Int32} {γ : Type} {f : Int32 → Option γ} {o : γ} (h : ob1 (T_rd σ 10 i) f = some o) (hdg : decode cc pc = .ok (.baload, 1))
    (kk : ∀ v : Int32, f v = some o → W p l e R s m args below meth c H locs cells slots Q (F0 m (pc + 1) ls (.int v :: rest))) : W p l e R s m args below meth c H locs cells slots Q (F0 m pc ls (.int i :: .ref (b + 10) :: rest)) := by
  obtain ⟨v, hv, h⟩ := ob1_e h
  obtain ⟨h1, rfl⟩ := T_rd_e hv
  exact g_zald hF hG twG_z 2 rfl h1 hdg (kk _ h)
theorem tw_wr (hF : gX p m c cc nL s args own D clX (tyA dA) K A R rm) (hL0 : L0 ≤ b) (hG : gJ D clX L0 A s.heap (twG dA b σ G0) n H locs) {j : Nat} (hj : twI j) {i v : Int32} {γ : Type} {f : TS → Option γ} {o : γ} (h : ob1 (T_wr σ j i v) f = some o) (hdg : decode cc pc = .ok (.iastore, 1))
    (kk : ∀ (σ' : TS) (H1 : Heap) (locs1 : List Loc), f σ' = some o → gJ D clX L0 A s.heap (twG dA b σ' G0) n H1 locs1 → W p l e R s m args below meth c H1 locs1 cells slots Q (F0 m (pc + 1) ls rest)) : W p l e R s m args below meth c H locs cells slots Q (F0 m pc ls (.int v :: .int i :: .ref (b + j) :: rest)) := by
  obtain ⟨σ', hv, h⟩ := ob1_e h
  obtain ⟨h1, rfl⟩ := T_wr_e hv
  refine g_iast hF hG (twG_arr hj) (Nat.le_trans hL0 (Nat.le_add_right _ _)) 0 rfl h1 hdg (fun H1 locs1 hG1 => ?_)
  have e := twG_sa (dA := dA) (b := b) (σ := σ) (G0 := G0) (i := i.toNatClampNeg) (v := v) hj.1 hj.2.1
  rw [if_neg hj.2.2] at e
  rw [e] at hG1
  exact kk _ H1 locs1 h hG1
theorem tw_wz (hF : gX p m c cc nL s args own D clX (tyA dA) K A R rm) (hL0 : L0 ≤ b) (hG : gJ D clX L0 A s.heap (twG dA b σ G0) n H locs) {i v : Int32} {γ : Type} {f : TS → Option γ} {o : γ} (h : ob1 (T_wz σ i v) f = some o) (hdg : decode cc pc = .ok (.bastore, 1))
    (kk : ∀ (σ' : TS) (H1 : Heap) (locs1 : List Loc), f σ' = some o → gJ D clX L0 A s.heap (twG dA b σ' G0) n H1 locs1 → W p l e R s m args below meth c H1 locs1 cells slots Q (F0 m (pc + 1) ls rest)) : W p l e R s m args below meth c H locs cells slots Q (F0 m pc ls (.int v :: .int i :: .ref (b + 10) :: rest)) := by
  obtain ⟨σ', hv, h⟩ := ob1_e h
  obtain ⟨h1, rfl⟩ := T_wr_e hv
  refine g_zast hF hG twG_z (Nat.le_trans hL0 (Nat.le_add_right _ _)) 2 rfl h1 hdg (fun H1 locs1 hG1 => ?_)
  have e : gU (twG dA b σ G0) (b + 10) (.inl (dA 2, 2, .inl (upd (σ.2 10) i.toNatClampNeg (vp_nar .boolean v)))) = twG dA b (T_sa σ 10 i.toNatClampNeg (vp_nar .boolean v)) G0 := twG_sa (by decide) (by decide)
  rw [e] at hG1
  exact kk _ H1 locs1 h hG1
end TWR
