/-! X4_become -/
def j_X4_become (a : Nat) (o : Nat) (ra : Nat) (many : Int32) (f : Nat → Int32) (ro : Nat) (mo : Int32) (fo : Nat → Int32) : Option (Int32 × (Nat → Int32)) :=
ob1 (cpF 12 12 fo f 0 0 12) fun (f1 : Nat → Int32) =>
some (mo, f1)
set_option maxRecDepth 100000 in
theorem w_X4_become {l : Launch} {g : gNum} {L0 sz : Nat} {G : GH} {a : Nat} {o : Nat} {ra : Nat} {many : Int32} {f : Nat → Int32} {ro : Nat} {mo : Int32} {fo : Nat → Int32} (f_a : G a = some (.inr (3, [.ref ra, .int many]))) (f_ra : G ra = some (.inl (g.2.1 0, 12, .inl f))) (f_o : G o = some (.inr (3, [.ref ro, .int mo]))) (f_ro : G ro = some (.inl (g.2.1 0, 12, .inl fo))) (l_a : L0 ≤ a) (l_ra : L0 ≤ ra) (n_a_o : a ≠ o) (n_ra_ro : ra ≠ ro) {out : Int32 × (Nat → Int32)} (h : j_X4_become a o ra many f ro mo fo = some out) : gMet l yX4_become (ws_ yX4_become cX4_become 2 none) g.1 clX L0 (gK g) [.ref a, .ref o] G sz 1 79 0 0 (fun v G2 n2 => v = none ∧ G2 = gU (gU G a (.inr (3, [.ref ra, .int out.1]))) ra (.inl (g.2.1 0, 12, .inl out.2)) ∧ n2 = sz) := by
  refine gMet.of (own := RX4) (gK_ok g) (by decide +kernel) (Nat.le_of_ble_eq_true rfl) rfl ?_
  intro p e R s m args below meth c A Q ls H hF hQ hin hG hl
  have hx := hF.1.1
  have hb := hF.1.2.1
  have hts := hF.1.2.2.2.2
  have hl : lv_has ls 2 [(0, .ref a), (1, .ref o)] := hl
  have n_a_ra : a ≠ ra := fun q => by rw [q, f_ra] at f_a; simp at f_a
  have n_a_ro : a ≠ ro := fun q => by rw [q, f_ro] at f_a; simp at f_a
  have n_ra_a : ra ≠ a := Ne.symm n_a_ra
  have n_ra_o : ra ≠ o := fun q => by rw [q, f_o] at f_ra; simp at f_ra
  have n_o_a : o ≠ a := Ne.symm n_a_o
  have n_o_ra : o ≠ ra := Ne.symm n_ra_o
  have n_ro_a : ro ≠ a := Ne.symm n_a_ro
  have n_ro_ra : ro ≠ ra := Ne.symm n_ra_ro
  have hG : gJK g L0 A s.heap (gU (gU G a (.inr (3, [.ref ra, .int many]))) ra (.inl (g.2.1 0, 12, .inl f))) sz H [] := by
    rw [gU_id f_a, gU_id f_ra]
    exact hG
  unfold j_X4_become at h
  refine lv_aload_n hx hb dX4_become_0 rfl (lv_at hl 0 rfl) ?_
  refine lv_aload_n hx hb dX4_become_1 rfl (lv_at hl 1 rfl) ?_
  refine g_get hF hG ((gU_n n_o_ra).trans ((gU_n n_o_a).trans f_o)) (C := RX4) (T := TX4) (N := 2) rfl in_X4 1 (by decide) q552 (fun _ h => h) (v := .int mo) rfl dX4_become_2 ?_
  refine g_put hF hG ((gU_n n_a_ra).trans gU_s) l_a (C := RX4) (T := TX4) (N := 2) rfl in_X4 tyX4 tyX4_ok nmX4 1 (by decide) q552 (fun _ h => h) rfl (by first | rfl | decide) rfl (Nat.le_of_ble_eq_true rfl) dX4_become_5 (fun H locs hG => ?_)
  rw [gU_sw n_a_ra, gU_ov] at hG
  have hG : gJK g L0 A s.heap (gU (gU G a (.inr (3, [.ref ra, .int mo]))) ra (.inl (g.2.1 0, 12, .inl f))) sz H locs := hG
  refine lv_aload_n hx hb dX4_become_8 rfl (lv_at hl 1 rfl) ?_
  refine g_get hF hG ((gU_n n_o_ra).trans ((gU_n n_o_a).trans f_o)) (C := RX4) (T := TX4) (N := 2) rfl in_X4 0 (by decide) q549 (fun _ h => h) (v := .ref ro) rfl dX4_become_9 ?_
  refine lv_iconst (v := 0) hx hb dX4_become_12 (by decide) ?_
  refine lv_aload_n hx hb dX4_become_13 rfl (lv_at hl 0 rfl) ?_
  refine g_get hF hG ((gU_n n_a_ra).trans gU_s) (C := RX4) (T := TX4) (N := 2) rfl in_X4 0 (by decide) q549 (fun _ h => h) (v := .ref ra) rfl dX4_become_14 ?_
  refine lv_iconst (v := 0) hx hb dX4_become_17 (by decide) ?_
  refine lv_bipush (v := 12) hx hb dX4_become_18 (by decide) ?_
  refine g_copyi hF hG hl q972 ((gU_n n_ro_ra).trans ((gU_n n_ro_a).trans f_ro)) gU_s l_ra h (Nat.le_of_ble_eq_true rfl) (by show _ ≤ _; exact Nat.le_of_ble_eq_true rfl) dX4_become_20 (fun f1 H locs h hG => ?_)
  rw [gU_ov] at hG
  have hG : gJK g L0 A s.heap (gU (gU G a (.inr (3, [.ref ra, .int mo]))) ra (.inl (g.2.1 0, 12, .inl f1))) sz H locs := hG
  have h := Option.some.inj h
  subst h
  exact g_vret hQ hG ⟨rfl, rfl, rfl⟩ (Nat.le_of_ble_eq_true rfl) (Nat.le_of_ble_eq_true rfl) dX4_become_23
/-! X5_become -/
def j_X5_become (a : Nat) (o : Nat) (m1 : Nat) (s1 : Nat) (l1 : Nat) (many : Int32) (sc : Nat) (fm : Nat → Int32) (fs : Nat → Int32) (fl : Nat → Int32) (m2 : Nat) (s2 : Nat) (l2 : Nat) (mo : Int32) (sc2 : Nat) (gm : Nat → Int32) (gs : Nat → Int32) (gl : Nat → Int32) : Option (Int32 × Nat × (Nat → Int32) × (Nat → Int32) × (Nat → Int32)) :=
ob1 (cpF 72 72 gm fm 0 0 72) fun (f1 : Nat → Int32) =>
ob1 (cpF 6 6 gs fs 0 0 6) fun (f2 : Nat → Int32) =>
ob1 (cpF 6 6 gl fl 0 0 6) fun (f3 : Nat → Int32) =>
some (mo, sc2, f3, f1, f2)
set_option maxRecDepth 100000 in
theorem w_X5_become {l : Launch} {g : gNum} {L0 sz : Nat} {G : GH} {a : Nat} {o : Nat} {m1 : Nat} {s1 : Nat} {l1 : Nat} {many : Int32} {sc : Nat} {fm : Nat → Int32} {fs : Nat → Int32} {fl : Nat → Int32} {m2 : Nat} {s2 : Nat} {l2 : Nat} {mo : Int32} {sc2 : Nat} {gm : Nat → Int32} {gs : Nat → Int32} {gl : Nat → Int32} (f_a : G a = some (.inr (4, [.ref m1, .ref s1, .ref l1, .int many, .ref sc]))) (f_m1 : G m1 = some (.inl (g.2.1 0, 72, .inl fm))) (f_s1 : G s1 = some (.inl (g.2.1 0, 6, .inl fs))) (f_l1 : G l1 = some (.inl (g.2.1 0, 6, .inl fl))) (f_o : G o = some (.inr (4, [.ref m2, .ref s2, .ref l2, .int mo, .ref sc2]))) (f_m2 : G m2 = some (.inl (g.2.1 0, 72, .inl gm))) (f_s2 : G s2 = some (.inl (g.2.1 0, 6, .inl gs))) (f_l2 : G l2 = some (.inl (g.2.1 0, 6, .inl gl))) (l_a : L0 ≤ a) (l_m1 : L0 ≤ m1) (l_s1 : L0 ≤ s1) (l_l1 : L0 ≤ l1) (n_a_o : a ≠ o) (n_m1_m2 : m1 ≠ m2) (n_m1_s2 : m1 ≠ s2) (n_m1_l2 : m1 ≠ l2) (n_s1_m2 : s1 ≠ m2) (n_s1_s2 : s1 ≠ s2) (n_s1_l2 : s1 ≠ l2) (n_l1_m2 : l1 ≠ m2) (n_l1_s2 : l1 ≠ s2) (n_l1_l2 : l1 ≠ l2) (n_m1_s1 : m1 ≠ s1) (n_m1_l1 : m1 ≠ l1) (n_s1_l1 : s1 ≠ l1) {out : Int32 × Nat × (Nat → Int32) × (Nat → Int32) × (Nat → Int32)} (h : j_X5_become a o m1 s1 l1 many sc fm fs fl m2 s2 l2 mo sc2 gm gs gl = some out) : gMet l yX5_become (ws_ yX5_become cX5_become 2 none) g.1 clX L0 (gK g) [.ref a, .ref o] G sz 1 79 0 0 (fun v G2 n2 => v = none ∧ G2 = gU (gU (gU (gU G a (.inr (4, [.ref m1, .ref s1, .ref l1, .int out.1, .ref out.2.1]))) m1 (.inl (g.2.1 0, 72, .inl out.2.2.2.1))) s1 (.inl (g.2.1 0, 6, .inl out.2.2.2.2))) l1 (.inl (g.2.1 0, 6, .inl out.2.2.1)) ∧ n2 = sz) := by
  refine gMet.of (own := RX5) (gK_ok g) (by decide +kernel) (Nat.le_of_ble_eq_true rfl) rfl ?_
  intro p e R s m args below meth c A Q ls H hF hQ hin hG hl
  have hx := hF.1.1
  have hb := hF.1.2.1
  have hts := hF.1.2.2.2.2
  have hl : lv_has ls 2 [(0, .ref a), (1, .ref o)] := hl
  have n_a_m1 : a ≠ m1 := fun q => by rw [q, f_m1] at f_a; simp at f_a
  have n_a_s1 : a ≠ s1 := fun q => by rw [q, f_s1] at f_a; simp at f_a
  have n_a_l1 : a ≠ l1 := fun q => by rw [q, f_l1] at f_a; simp at f_a
  have n_a_m2 : a ≠ m2 := fun q => by rw [q, f_m2] at f_a; simp at f_a
  have n_a_s2 : a ≠ s2 := fun q => by rw [q, f_s2] at f_a; simp at f_a
  have n_a_l2 : a ≠ l2 := fun q => by rw [q, f_l2] at f_a; simp at f_a
  have n_m1_a : m1 ≠ a := Ne.symm n_a_m1
  have n_m1_o : m1 ≠ o := fun q => by rw [q, f_o] at f_m1; simp at f_m1
  have n_s1_a : s1 ≠ a := Ne.symm n_a_s1
  have n_s1_m1 : s1 ≠ m1 := Ne.symm n_m1_s1
  have n_s1_o : s1 ≠ o := fun q => by rw [q, f_o] at f_s1; simp at f_s1
  have n_l1_a : l1 ≠ a := Ne.symm n_a_l1
  have n_l1_m1 : l1 ≠ m1 := Ne.symm n_m1_l1
  have n_l1_s1 : l1 ≠ s1 := Ne.symm n_s1_l1
  have n_l1_o : l1 ≠ o := fun q => by rw [q, f_o] at f_l1; simp at f_l1
  have n_o_a : o ≠ a := Ne.symm n_a_o
  have n_o_m1 : o ≠ m1 := Ne.symm n_m1_o
  have n_o_s1 : o ≠ s1 := Ne.symm n_s1_o
  have n_o_l1 : o ≠ l1 := Ne.symm n_l1_o
  have n_m2_a : m2 ≠ a := Ne.symm n_a_m2
  have n_m2_m1 : m2 ≠ m1 := Ne.symm n_m1_m2
  have n_m2_s1 : m2 ≠ s1 := Ne.symm n_s1_m2
  have n_m2_l1 : m2 ≠ l1 := Ne.symm n_l1_m2
  have n_s2_a : s2 ≠ a := Ne.symm n_a_s2
  have n_s2_m1 : s2 ≠ m1 := Ne.symm n_m1_s2
  have n_s2_s1 : s2 ≠ s1 := Ne.symm n_s1_s2
  have n_s2_l1 : s2 ≠ l1 := Ne.symm n_l1_s2
  have n_l2_a : l2 ≠ a := Ne.symm n_a_l2
  have n_l2_m1 : l2 ≠ m1 := Ne.symm n_m1_l2
  have n_l2_s1 : l2 ≠ s1 := Ne.symm n_s1_l2
  have n_l2_l1 : l2 ≠ l1 := Ne.symm n_l1_l2
  have hG : gJK g L0 A s.heap (gU (gU (gU (gU G a (.inr (4, [.ref m1, .ref s1, .ref l1, .int many, .ref sc]))) m1 (.inl (g.2.1 0, 72, .inl fm))) s1 (.inl (g.2.1 0, 6, .inl fs))) l1 (.inl (g.2.1 0, 6, .inl fl))) sz H [] := by
    rw [gU_id f_a, gU_id f_m1, gU_id f_s1, gU_id f_l1]
    exact hG
  unfold j_X5_become at h
  refine lv_aload_n hx hb dX5_become_0 rfl (lv_at hl 0 rfl) ?_
  refine lv_aload_n hx hb dX5_become_1 rfl (lv_at hl 1 rfl) ?_
  refine g_get hF hG ((gU_n n_o_l1).trans ((gU_n n_o_s1).trans ((gU_n n_o_m1).trans ((gU_n n_o_a).trans f_o)))) (C := RX5) (T := TX5) (N := 5) rfl in_X5 3 (by decide) q573 (fun _ h => h) (v := .int mo) rfl dX5_become_2 ?_
  refine g_put hF hG ((gU_n n_a_l1).trans ((gU_n n_a_s1).trans ((gU_n n_a_m1).trans gU_s))) l_a (C := RX5) (T := TX5) (N := 5) rfl in_X5 tyX5 tyX5_ok nmX5 3 (by decide) q573 (fun _ h => h) rfl (by first | rfl | decide) rfl (Nat.le_of_ble_eq_true rfl) dX5_become_5 (fun H locs hG => ?_)
  rw [gU_sw n_a_l1, gU_sw n_a_s1, gU_sw n_a_m1, gU_ov] at hG
  have hG : gJK g L0 A s.heap (gU (gU (gU (gU G a (.inr (4, [.ref m1, .ref s1, .ref l1, .int mo, .ref sc]))) m1 (.inl (g.2.1 0, 72, .inl fm))) s1 (.inl (g.2.1 0, 6, .inl fs))) l1 (.inl (g.2.1 0, 6, .inl fl))) sz H locs := hG
  refine lv_aload_n hx hb dX5_become_8 rfl (lv_at hl 0 rfl) ?_
  refine lv_aload_n hx hb dX5_become_9 rfl (lv_at hl 1 rfl) ?_
  refine g_get hF hG ((gU_n n_o_l1).trans ((gU_n n_o_s1).trans ((gU_n n_o_m1).trans ((gU_n n_o_a).trans f_o)))) (C := RX5) (T := TX5) (N := 5) rfl in_X5 4 (by decide) q576 (fun _ h => h) (v := .ref sc2) rfl dX5_become_10 ?_
  refine g_put hF hG ((gU_n n_a_l1).trans ((gU_n n_a_s1).trans ((gU_n n_a_m1).trans gU_s))) l_a (C := RX5) (T := TX5) (N := 5) rfl in_X5 tyX5 tyX5_ok nmX5 4 (by decide) q576 (fun _ h => h) rfl (by first | rfl | decide) rfl (Nat.le_of_ble_eq_true rfl) dX5_become_13 (fun H locs hG => ?_)
  rw [gU_sw n_a_l1, gU_sw n_a_s1, gU_sw n_a_m1, gU_ov] at hG
  have hG : gJK g L0 A s.heap (gU (gU (gU (gU G a (.inr (4, [.ref m1, .ref s1, .ref l1, .int mo, .ref sc2]))) m1 (.inl (g.2.1 0, 72, .inl fm))) s1 (.inl (g.2.1 0, 6, .inl fs))) l1 (.inl (g.2.1 0, 6, .inl fl))) sz H locs := hG
  refine lv_aload_n hx hb dX5_become_16 rfl (lv_at hl 1 rfl) ?_
  refine g_get hF hG ((gU_n n_o_l1).trans ((gU_n n_o_s1).trans ((gU_n n_o_m1).trans ((gU_n n_o_a).trans f_o)))) (C := RX5) (T := TX5) (N := 5) rfl in_X5 0 (by decide) q566 (fun _ h => h) (v := .ref m2) rfl dX5_become_17 ?_
  refine lv_iconst (v := 0) hx hb dX5_become_20 (by decide) ?_
  refine lv_aload_n hx hb dX5_become_21 rfl (lv_at hl 0 rfl) ?_
  refine g_get hF hG ((gU_n n_a_l1).trans ((gU_n n_a_s1).trans ((gU_n n_a_m1).trans gU_s))) (C := RX5) (T := TX5) (N := 5) rfl in_X5 0 (by decide) q566 (fun _ h => h) (v := .ref m1) rfl dX5_become_22 ?_
  refine lv_iconst (v := 0) hx hb dX5_become_25 (by decide) ?_
  refine lv_bipush (v := 72) hx hb dX5_become_26 (by decide) ?_
  refine g_copyi hF hG hl q967 ((gU_n n_m2_l1).trans ((gU_n n_m2_s1).trans ((gU_n n_m2_m1).trans ((gU_n n_m2_a).trans f_m2)))) ((gU_n n_m1_l1).trans ((gU_n n_m1_s1).trans gU_s)) l_m1 h (Nat.le_of_ble_eq_true rfl) (by show _ ≤ _; exact Nat.le_of_ble_eq_true rfl) dX5_become_28 (fun f1 H locs h hG => ?_)
  rw [gU_sw n_m1_l1, gU_sw n_m1_s1, gU_ov] at hG
  have hG : gJK g L0 A s.heap (gU (gU (gU (gU G a (.inr (4, [.ref m1, .ref s1, .ref l1, .int mo, .ref sc2]))) m1 (.inl (g.2.1 0, 72, .inl f1))) s1 (.inl (g.2.1 0, 6, .inl fs))) l1 (.inl (g.2.1 0, 6, .inl fl))) sz H locs := hG
  refine lv_aload_n hx hb dX5_become_31 rfl (lv_at hl 1 rfl) ?_
  refine g_get hF hG ((gU_n n_o_l1).trans ((gU_n n_o_s1).trans ((gU_n n_o_m1).trans ((gU_n n_o_a).trans f_o)))) (C := RX5) (T := TX5) (N := 5) rfl in_X5 1 (by decide) q569 (fun _ h => h) (v := .ref s2) rfl dX5_become_32 ?_
  refine lv_iconst (v := 0) hx hb dX5_become_35 (by decide) ?_
  refine lv_aload_n hx hb dX5_become_36 rfl (lv_at hl 0 rfl) ?_
  refine g_get hF hG ((gU_n n_a_l1).trans ((gU_n n_a_s1).trans ((gU_n n_a_m1).trans gU_s))) (C := RX5) (T := TX5) (N := 5) rfl in_X5 1 (by decide) q569 (fun _ h => h) (v := .ref s1) rfl dX5_become_37 ?_
  refine lv_iconst (v := 0) hx hb dX5_become_40 (by decide) ?_
  refine lv_bipush (v := 6) hx hb dX5_become_41 (by decide) ?_
  refine g_copyi hF hG hl q967 ((gU_n n_s2_l1).trans ((gU_n n_s2_s1).trans ((gU_n n_s2_m1).trans ((gU_n n_s2_a).trans f_s2)))) ((gU_n n_s1_l1).trans gU_s) l_s1 h (Nat.le_of_ble_eq_true rfl) (by show _ ≤ _; exact Nat.le_of_ble_eq_true rfl) dX5_become_43 (fun f2 H locs h hG => ?_)
  rw [gU_sw n_s1_l1, gU_ov] at hG
  have hG : gJK g L0 A s.heap (gU (gU (gU (gU G a (.inr (4, [.ref m1, .ref s1, .ref l1, .int mo, .ref sc2]))) m1 (.inl (g.2.1 0, 72, .inl f1))) s1 (.inl (g.2.1 0, 6, .inl f2))) l1 (.inl (g.2.1 0, 6, .inl fl))) sz H locs := hG
  refine lv_aload_n hx hb dX5_become_46 rfl (lv_at hl 1 rfl) ?_
  refine g_get hF hG ((gU_n n_o_l1).trans ((gU_n n_o_s1).trans ((gU_n n_o_m1).trans ((gU_n n_o_a).trans f_o)))) (C := RX5) (T := TX5) (N := 5) rfl in_X5 2 (by decide) q571 (fun _ h => h) (v := .ref l2) rfl dX5_become_47 ?_
  refine lv_iconst (v := 0) hx hb dX5_become_50 (by decide) ?_
  refine lv_aload_n hx hb dX5_become_51 rfl (lv_at hl 0 rfl) ?_
  refine g_get hF hG ((gU_n n_a_l1).trans ((gU_n n_a_s1).trans ((gU_n n_a_m1).trans gU_s))) (C := RX5) (T := TX5) (N := 5) rfl in_X5 2 (by decide) q571 (fun _ h => h) (v := .ref l1) rfl dX5_become_52 ?_
  refine lv_iconst (v := 0) hx hb dX5_become_55 (by decide) ?_
  refine lv_bipush (v := 6) hx hb dX5_become_56 (by decide) ?_
  refine g_copyi hF hG hl q967 ((gU_n n_l2_l1).trans ((gU_n n_l2_s1).trans ((gU_n n_l2_m1).trans ((gU_n n_l2_a).trans f_l2)))) gU_s l_l1 h (Nat.le_of_ble_eq_true rfl) (by show _ ≤ _; exact Nat.le_of_ble_eq_true rfl) dX5_become_58 (fun f3 H locs h hG => ?_)
  rw [gU_ov] at hG
  have hG : gJK g L0 A s.heap (gU (gU (gU (gU G a (.inr (4, [.ref m1, .ref s1, .ref l1, .int mo, .ref sc2]))) m1 (.inl (g.2.1 0, 72, .inl f1))) s1 (.inl (g.2.1 0, 6, .inl f2))) l1 (.inl (g.2.1 0, 6, .inl f3))) sz H locs := hG
  have h := Option.some.inj h
  subst h
  exact g_vret hQ hG ⟨rfl, rfl, rfl⟩ (Nat.le_of_ble_eq_true rfl) (Nat.le_of_ble_eq_true rfl) dX5_become_61
/-! X2_copy_2 -/
def j_X2_copy_2 (a : Nat) (b : Nat) (f : Nat → Int32) (h0 : Nat → Int32) : Option (Nat → Int32) :=
ob1 (cpF 12 12 f h0 0 0 (Int32.ofNat 12)) fun (f1 : Nat → Int32) =>
some f1
set_option maxRecDepth 100000 in
theorem w_X2_copy_2 {l : Launch} {g : gNum} {L0 sz : Nat} {G : GH} {a : Nat} {b : Nat} {f : Nat → Int32} {h0 : Nat → Int32} (f_a : G a = some (.inl (g.2.1 0, 12, .inl f))) (f_b : G b = some (.inl (g.2.1 0, 12, .inl h0))) (l_b : L0 ≤ b) (n_a_b : a ≠ b) {out : Nat → Int32} (h : j_X2_copy_2 a b f h0 = some out) : gMet l yX2_copy_2 (ws_ yX2_copy_2 cX2_copy_2 2 none) g.1 clX L0 (gK g) [.ref a, .ref b] G sz 1 79 0 0 (fun v G2 n2 => v = none ∧ G2 = gU G b (.inl (g.2.1 0, 12, .inl out)) ∧ n2 = sz) := by
  refine gMet.of (own := RX2) (gK_ok g) (by decide +kernel) (Nat.le_of_ble_eq_true rfl) rfl ?_
  intro p e R s m args below meth c A Q ls H hF hQ hin hG hl
  have hx := hF.1.1
  have hb := hF.1.2.1
  have hts := hF.1.2.2.2.2
  have hl : lv_has ls 2 [(0, .ref a), (1, .ref b)] := hl
  have n_b_a : b ≠ a := Ne.symm n_a_b
  have hG : gJK g L0 A s.heap (gU G b (.inl (g.2.1 0, 12, .inl h0))) sz H [] := by
    rw [gU_id f_b]
    exact hG
  unfold j_X2_copy_2 at h
  refine lv_aload_n hx hb dX2_copy_2_0 rfl (lv_at hl 0 rfl) ?_
  refine lv_iconst (v := 0) hx hb dX2_copy_2_1 (by decide) ?_
  refine lv_aload_n hx hb dX2_copy_2_2 rfl (lv_at hl 1 rfl) ?_
  refine lv_iconst (v := 0) hx hb dX2_copy_2_3 (by decide) ?_
  refine lv_aload_n hx hb dX2_copy_2_4 rfl (lv_at hl 0 rfl) ?_
  refine g_alen hF hG ((gU_n n_a_b).trans f_a) 0 rfl rfl dX2_copy_2_5 ?_
  refine g_copyi hF hG hl q962 ((gU_n n_a_b).trans f_a) gU_s l_b h (Nat.le_of_ble_eq_true rfl) (by show _ ≤ _; exact Nat.le_of_ble_eq_true rfl) dX2_copy_2_6 (fun f1 H locs h hG => ?_)
  rw [gU_ov] at hG
  have hG : gJK g L0 A s.heap (gU G b (.inl (g.2.1 0, 12, .inl f1))) sz H locs := hG
  have h := Option.some.inj h
  subst h
  exact g_vret hQ hG ⟨rfl, rfl, rfl⟩ (Nat.le_of_ble_eq_true rfl) (Nat.le_of_ble_eq_true rfl) dX2_copy_2_9
/-! X4_init -/
def j_X4_init (a : Nat) (many : Int32) : Option (Unit) :=
some ()
set_option maxRecDepth 100000 in
theorem w_X4_init {l : Launch} {g : gNum} {L0 sz : Nat} {G : GH} {a : Nat} {many : Int32} (f_a : G a = some (.inr (3, [Value.null, .int many]))) (l_a : L0 ≤ a) (hLs : L0 ≤ sz) {out : Unit} (h : j_X4_init a many = some out) : gMet l yX4_init (ws_ yX4_init cX4_init 1 none) g.1 clX L0 (gK g) [.ref a] G sz 1 12 1 12 (fun v G2 n2 => v = none ∧ G2 = gU (gU G a (.inr (3, [.ref sz, .int many]))) sz (.inl (g.2.1 0, 12, .inl (fun _ => 0))) ∧ n2 = sz + 1) := by
  refine gMet.of (own := RX4) (gK_ok g) (by decide +kernel) (Nat.le_of_ble_eq_true rfl) rfl ?_
  intro p e R s m args below meth c A Q ls H hF hQ hin hG hl
  have hx := hF.1.1
  have hb := hF.1.2.1
  have hts := hF.1.2.2.2.2
  have hl : lv_has ls 1 [(0, .ref a)] := hl
  have hG : gJK g L0 A s.heap (gU G a (.inr (3, [Value.null, .int many]))) sz H [] := by
    rw [gU_id f_a]
    exact hG
  unfold j_X4_init at h
  refine lv_aload_n hx hb dX4_init_0 rfl (lv_at hl 0 rfl) ?_
  refine W.objInit hx hb hF.1.2.2.2.1 (hts _ q548) (hts _ q128) (hts _ q129) rfl (by rw [hF.1.2.2.1]; exact hl.1) rfl dX4_init_1 (by rw [hF.2.2.2.2]; exact Nat.le_of_ble_eq_true rfl) (by rw [hF.2.2.2.2]; exact Nat.le_of_ble_eq_true rfl) ?_
  refine W.eq (g2 := F0 m 4 ls []) rfl ?_
  refine lv_aload_n hx hb dX4_init_4 rfl (lv_at hl 0 rfl) ?_
  refine lv_bipush (v := 12) hx hb dX4_init_5 (by decide) ?_
  have n_a_q1 : a ≠ sz := hG.nen gU_s
  have n_q1_a : sz ≠ a := Ne.symm n_a_q1
  refine g_newa hF hG (ty := .int) rfl q538 (cA := g.2.1 0) 0 rfl (fun _ q => by cases q) (i := 12) (N := 12) (a0 := (12, .inl (fun _ => 0))) (fun _ => rfl) (by decide) (by decide) (by decide) (by rw [hF.2.2.2.2]; exact Nat.le_of_ble_eq_true rfl) (by rw [hF.2.2.2.2]; exact Nat.le_of_ble_eq_true rfl) dX4_init_7 (fun H hG => ?_)
  have hG := hG
  refine g_putF hF hG ((gU_n n_a_q1).trans gU_s) l_a (C := RX4) (T := TX4) (N := 2) rfl in_X4 tyX4 tyX4_ok nmX4 0 (by decide) q549 (fun _ h => h) rfl (hin rfl) rfl (by first | rfl | decide) rfl (Nat.le_of_ble_eq_true rfl) dX4_init_9 (fun H locs hG => ?_)
  rw [gU_sw n_a_q1, gU_ov] at hG
  have hG : gJK g L0 A s.heap (gU (gU G a (.inr (3, [.ref sz, .int many]))) sz (.inl (g.2.1 0, 12, .inl (fun _ => 0)))) (sz + 1) H locs := hG
  have h := Option.some.inj h
  exact g_vret hQ hG ⟨rfl, rfl, rfl⟩ (Nat.le_of_ble_eq_true rfl) (Nat.le_of_ble_eq_true rfl) dX4_init_12
/-! J24_init -/
def j_J24_init (it : Nat) (a : Nat) (cur : Int32) (last : Int32) (exp : Int32) (mod : Int32) (ar : Nat) (k : Int32) : Option (Unit) :=
some ()
set_option maxRecDepth 100000 in
theorem w_J24_init {l : Launch} {g : gNum} {L0 sz : Nat} {G : GH} {it : Nat} {a : Nat} {cur : Int32} {last : Int32} {exp : Int32} {mod : Int32} {ar : Nat} {k : Int32} (f_it : G it = some (.inr (14, [.int cur, .int last, .int exp, Value.null]))) (f_a : G a = some (.inr (12, [.int mod, .ref ar, .int k]))) (l_it : L0 ≤ it) {out : Unit} (h : j_J24_init it a cur last exp mod ar k = some out) : gMet l yJ24_init (ws_ yJ24_init cJ24_init 2 none) g.1 clX L0 (gK g) [.ref it, .ref a] G sz 1 12 0 0 (fun v G2 n2 => v = none ∧ G2 = gU G it (.inr (14, [.int cur, .int (-1), .int mod, .ref a])) ∧ n2 = sz) := by
  refine gMet.of (own := RJ24) (gK_ok g) (by decide +kernel) (Nat.le_of_ble_eq_true rfl) rfl ?_
  intro p e R s m args below meth c A Q ls H hF hQ hin hG hl
  have hx := hF.1.1
  have hb := hF.1.2.1
  have hts := hF.1.2.2.2.2
  have hl : lv_has ls 2 [(0, .ref it), (1, .ref a)] := hl
  have n_it_a : it ≠ a := fun q => by rw [q, f_a] at f_it; simp at f_it
  have n_a_it : a ≠ it := Ne.symm n_it_a
  have hG : gJK g L0 A s.heap (gU G it (.inr (14, [.int cur, .int last, .int exp, Value.null]))) sz H [] := by
    rw [gU_id f_it]
    exact hG
  unfold j_J24_init at h
  refine lv_aload_n hx hb dJ24_init_0 rfl (lv_at hl 0 rfl) ?_
  refine lv_aload_n hx hb dJ24_init_1 rfl (lv_at hl 1 rfl) ?_
  refine g_putF hF hG gU_s l_it (C := RJ24) (T := TJ24) (N := 4) rfl in_J24 tyJ24 tyJ24_ok nmJ24 3 (by decide) q1614 (fun _ h => h) rfl (hin rfl) rfl (by first | rfl | decide) rfl (Nat.le_of_ble_eq_true rfl) dJ24_init_2 (fun H locs hG => ?_)
  rw [gU_ov] at hG
  have hG : gJK g L0 A s.heap (gU G it (.inr (14, [.int cur, .int last, .int exp, .ref a]))) sz H locs := hG
  refine lv_aload_n hx hb dJ24_init_5 rfl (lv_at hl 0 rfl) ?_
  refine W.objInit hx hb hF.1.2.2.2.1 (hts _ q1610) (hts _ q128) (hts _ q129) rfl (by rw [hF.1.2.2.1]; exact hl.1) rfl dJ24_init_6 (by rw [hF.2.2.2.2]; exact Nat.le_of_ble_eq_true rfl) (by rw [hF.2.2.2.2]; exact Nat.le_of_ble_eq_true rfl) ?_
  refine W.eq (g2 := F0 m 9 ls []) rfl ?_
  refine lv_aload_n hx hb dJ24_init_9 rfl (lv_at hl 0 rfl) ?_
  refine lv_iconst (v := (-1)) hx hb dJ24_init_10 (by decide) ?_
  refine g_put hF hG gU_s l_it (C := RJ24) (T := TJ24) (N := 4) rfl in_J24 tyJ24 tyJ24_ok nmJ24 1 (by decide) q1612 (fun _ h => h) rfl (by first | rfl | decide) rfl (Nat.le_of_ble_eq_true rfl) dJ24_init_11 (fun H locs hG => ?_)
  rw [gU_ov] at hG
  have hG : gJK g L0 A s.heap (gU G it (.inr (14, [.int cur, .int (-1), .int exp, .ref a]))) sz H locs := hG
  refine lv_aload_n hx hb dJ24_init_14 rfl (lv_at hl 0 rfl) ?_
  refine lv_aload_n hx hb dJ24_init_15 rfl (lv_at hl 0 rfl) ?_
  refine g_get hF hG gU_s (C := RJ24) (T := TJ24) (N := 4) rfl in_J24 3 (by decide) q1614 (fun _ h => h) (v := .ref a) rfl dJ24_init_16 ?_
  refine g_get hF hG ((gU_n n_a_it).trans f_a) (C := RJ2) (T := TJ2) (N := 3) rfl in_J2 0 (by decide) q478 (fun x hx0 => u_same (hts _ q479) x hx0) (v := .int mod) rfl dJ24_init_19 ?_
  refine g_put hF hG gU_s l_it (C := RJ24) (T := TJ24) (N := 4) rfl in_J24 tyJ24 tyJ24_ok nmJ24 2 (by decide) q1613 (fun _ h => h) rfl (by first | rfl | decide) rfl (Nat.le_of_ble_eq_true rfl) dJ24_init_22 (fun H locs hG => ?_)
  rw [gU_ov] at hG
  have hG : gJK g L0 A s.heap (gU G it (.inr (14, [.int cur, .int (-1), .int mod, .ref a]))) sz H locs := hG
  have h := Option.some.inj h
  exact g_vret hQ hG ⟨rfl, rfl, rfl⟩ (Nat.le_of_ble_eq_true rfl) (Nat.le_of_ble_eq_true rfl) dJ24_init_25
/-! J2_iterator -/
def j_J2_iterator (a : Nat) (mod : Int32) (ar : Nat) (k : Int32) : Option (Unit) :=
some ()
set_option maxRecDepth 100000 in
theorem w_J2_iterator {l : Launch} {g : gNum} {L0 sz : Nat} {G : GH} {a : Nat} {mod : Int32} {ar : Nat} {k : Int32} (f_a : G a = some (.inr (12, [.int mod, .ref ar, .int k]))) (hLs : L0 ≤ sz) {out : Unit} (h : j_J2_iterator a mod ar k = some out) : gMet l yJ2_iterator (ws_ yJ2_iterator cJ2_iterator 1 (some (.object "java/util/Iterator"))) g.1 clX L0 (gK g) [.ref a] G sz 2 33 1 4 (fun v G2 n2 => v = some (.ref sz) ∧ G2 = gU G sz (.inr (14, [.int 0, .int (-1), .int mod, .ref a])) ∧ n2 = sz + 1) := by
  refine gMet.of (own := RJ2) (gK_ok g) (by decide +kernel) (Nat.le_of_ble_eq_true rfl) rfl ?_
  intro p e R s m args below meth c A Q ls H hF hQ hin hG hl
  have hx := hF.1.1
  have hb := hF.1.2.1
  have hts := hF.1.2.2.2.2
  have hl : lv_has ls 1 [(0, .ref a)] := hl
  unfold j_J2_iterator at h
  have n_a_q1 : a ≠ sz := hG.nen f_a
  have n_q1_a : sz ≠ a := Ne.symm n_a_q1
  refine g_new hF hG in_J24 tyJ24 tyJ24_ok q1605 q1606 q121 (ci := 14) rfl (fs := [.int 0, .int 0, .int 0, Value.null]) (by decide) (by rw [hF.2.2.2.2]; exact Nat.le_of_ble_eq_true rfl) (by rw [hF.2.2.2.2]; exact Nat.le_of_ble_eq_true rfl) dJ2_iterator_0 (fun H hG => ?_)
  have hG := hG
  refine lv_dup hx hb dJ2_iterator_3 rfl ?_
  refine lv_aload_n hx hb dJ2_iterator_4 rfl (lv_at hl 0 rfl) ?_
  refine g_callI hF hG hl (w_J24_init (g := g) (l := l) (L0 := L0) (G := (gU G sz (.inr (14, [.int 0, .int 0, .int 0, Value.null])))) (sz := (sz + 1)) (it := sz) (a := a) (cur := 0) (last := 0) (exp := 0) (mod := mod) (ar := ar) (k := k) (f_it := gU_s) (f_a := ((gU_n n_a_q1).trans f_a)) (l_it := (Nat.le_trans hLs (by omega)))   rfl) (cwI 1 hF.1.2.2.2.2 (lw_meth q1609) rfl rfl rfl (hF.1.2.2.2.2 _ q121) (hF.1.2.2.2.2 _ q1607) (hF.1.2.2.2.2 _ q1608) rfl (by decide +kernel) (g_room hF (Nat.le_of_ble_eq_true rfl) (Nat.le_of_ble_eq_true rfl))) rfl rfl (Nat.le_of_ble_eq_true rfl) dJ2_iterator_5 ⟨by rw [hF.2.2.2.2]; exact Nat.le_of_ble_eq_true rfl, by rw [hF.2.2.2.2]; exact Nat.le_of_ble_eq_true rfl⟩ (fun v0 G1 n1 H locs hR hG => ?_)
  obtain ⟨hv0, hg1, hn1⟩ := hR
  subst hv0
  rw [hg1, hn1] at hG
  rw [gU_ov (a := sz)] at hG
  have hG : gJK g L0 A s.heap (gU G sz (.inr (14, [.int 0, .int (-1), .int mod, .ref a]))) (sz + 1) H locs := hG
  have h := Option.some.inj h
  exact g_aret hQ (by first | exact Or.inl ⟨_, rfl⟩ | exact Or.inr ⟨_, rfl⟩) hG (Or.inr ⟨_, rfl⟩) ⟨rfl, rfl, rfl⟩ (Nat.le_of_ble_eq_true rfl) (Nat.le_of_ble_eq_true rfl) dJ2_iterator_8
/-! X5_init -/
def j_X5_init (a : Nat) (sr : Nat) (many : Int32) : Option (Unit) :=
some ()
set_option maxRecDepth 100000 in
theorem w_X5_init {l : Launch} {g : gNum} {L0 sz : Nat} {G : GH} {a : Nat} {sr : Nat} {many : Int32} (f_a : G a = some (.inr (4, [Value.null, Value.null, Value.null, .int many, Value.null]))) (l_a : L0 ≤ a) (hLs : L0 ≤ sz) {out : Unit} (h : j_X5_init a sr many = some out) : gMet l yX5_init (ws_ yX5_init cX5_init 2 none) g.1 clX L0 (gK g) [.ref a, .ref sr] G sz 1 12 3 84 (fun v G2 n2 => v = none ∧ G2 = gU (gU (gU (gU G a (.inr (4, [.ref sz, .ref (sz + 1), .ref (sz + 2), .int many, .ref sr]))) sz (.inl (g.2.1 0, 72, .inl (fun _ => 0)))) (sz + 1) (.inl (g.2.1 0, 6, .inl (fun _ => 0)))) (sz + 2) (.inl (g.2.1 0, 6, .inl (fun _ => 0))) ∧ n2 = sz + 3) := by
  refine gMet.of (own := RX5) (gK_ok g) (by decide +kernel) (Nat.le_of_ble_eq_true rfl) rfl ?_
  intro p e R s m args below meth c A Q ls H hF hQ hin hG hl
  have hx := hF.1.1
  have hb := hF.1.2.1
  have hts := hF.1.2.2.2.2
  have hl : lv_has ls 2 [(0, .ref a), (1, .ref sr)] := hl
  have hG : gJK g L0 A s.heap (gU G a (.inr (4, [Value.null, Value.null, Value.null, .int many, Value.null]))) sz H [] := by
    rw [gU_id f_a]
    exact hG
  unfold j_X5_init at h
  refine lv_aload_n hx hb dX5_init_0 rfl (lv_at hl 0 rfl) ?_
  refine W.objInit hx hb hF.1.2.2.2.1 (hts _ q565) (hts _ q128) (hts _ q129) rfl (by rw [hF.1.2.2.1]; exact hl.1) rfl dX5_init_1 (by rw [hF.2.2.2.2]; exact Nat.le_of_ble_eq_true rfl) (by rw [hF.2.2.2.2]; exact Nat.le_of_ble_eq_true rfl) ?_
  refine W.eq (g2 := F0 m 4 ls []) rfl ?_
  refine lv_aload_n hx hb dX5_init_4 rfl (lv_at hl 0 rfl) ?_
  refine lv_bipush (v := 72) hx hb dX5_init_5 (by decide) ?_
  have n_a_q1 : a ≠ sz := hG.nen gU_s
  have n_q1_a : sz ≠ a := Ne.symm n_a_q1
  refine g_newa hF hG (ty := .int) rfl q538 (cA := g.2.1 0) 0 rfl (fun _ q => by cases q) (i := 72) (N := 72) (a0 := (72, .inl (fun _ => 0))) (fun _ => rfl) (by decide) (by decide) (by decide) (by rw [hF.2.2.2.2]; exact Nat.le_of_ble_eq_true rfl) (by rw [hF.2.2.2.2]; exact Nat.le_of_ble_eq_true rfl) dX5_init_7 (fun H hG => ?_)
  have hG := hG
  refine g_putF hF hG ((gU_n n_a_q1).trans gU_s) l_a (C := RX5) (T := TX5) (N := 5) rfl in_X5 tyX5 tyX5_ok nmX5 0 (by decide) q566 (fun _ h => h) rfl (hin rfl) rfl (by first | rfl | decide) rfl (Nat.le_of_ble_eq_true rfl) dX5_init_9 (fun H locs hG => ?_)
  rw [gU_sw n_a_q1, gU_ov] at hG
  have hG : gJK g L0 A s.heap (gU (gU G a (.inr (4, [.ref sz, Value.null, Value.null, .int many, Value.null]))) sz (.inl (g.2.1 0, 72, .inl (fun _ => 0)))) (sz + 1) H locs := hG
  refine lv_aload_n hx hb dX5_init_12 rfl (lv_at hl 0 rfl) ?_
  refine lv_bipush (v := 6) hx hb dX5_init_13 (by decide) ?_
  have n_a_q2 : a ≠ (sz + 1) := hG.nen ((gU_n n_a_q1).trans gU_s)
  have n_q2_a : (sz + 1) ≠ a := Ne.symm n_a_q2
  have n_q1_q2 : sz ≠ (sz + 1) := hG.nen gU_s
  have n_q2_q1 : (sz + 1) ≠ sz := Ne.symm n_q1_q2
  refine g_newa hF hG (ty := .int) rfl q538 (cA := g.2.1 0) 0 rfl (fun _ q => by cases q) (i := 6) (N := 6) (a0 := (6, .inl (fun _ => 0))) (fun _ => rfl) (by decide) (by decide) (by decide) (by rw [hF.2.2.2.2]; exact Nat.le_of_ble_eq_true rfl) (by rw [hF.2.2.2.2]; exact Nat.le_of_ble_eq_true rfl) dX5_init_15 (fun H hG => ?_)
  have hG := hG
  refine g_putF hF hG ((gU_n n_a_q2).trans ((gU_n n_a_q1).trans gU_s)) l_a (C := RX5) (T := TX5) (N := 5) rfl in_X5 tyX5 tyX5_ok nmX5 1 (by decide) q569 (fun _ h => h) rfl (hin rfl) rfl (by first | rfl | decide) rfl (Nat.le_of_ble_eq_true rfl) dX5_init_17 (fun H locs hG => ?_)
  rw [gU_sw n_a_q2, gU_sw n_a_q1, gU_ov] at hG
  have hG : gJK g L0 A s.heap (gU (gU (gU G a (.inr (4, [.ref sz, .ref (sz + 1), Value.null, .int many, Value.null]))) sz (.inl (g.2.1 0, 72, .inl (fun _ => 0)))) (sz + 1) (.inl (g.2.1 0, 6, .inl (fun _ => 0)))) (sz + 2) H locs := hG
  refine lv_aload_n hx hb dX5_init_20 rfl (lv_at hl 0 rfl) ?_
  refine lv_bipush (v := 6) hx hb dX5_init_21 (by decide) ?_
  have n_a_q3 : a ≠ (sz + 2) := hG.nen ((gU_n n_a_q2).trans ((gU_n n_a_q1).trans gU_s))
  have n_q3_a : (sz + 2) ≠ a := Ne.symm n_a_q3
  have n_q1_q3 : sz ≠ (sz + 2) := hG.nen ((gU_n n_q1_q2).trans gU_s)
  have n_q3_q1 : (sz + 2) ≠ sz := Ne.symm n_q1_q3
  have n_q2_q3 : (sz + 1) ≠ (sz + 2) := hG.nen gU_s
  have n_q3_q2 : (sz + 2) ≠ (sz + 1) := Ne.symm n_q2_q3
  refine g_newa hF hG (ty := .int) rfl q538 (cA := g.2.1 0) 0 rfl (fun _ q => by cases q) (i := 6) (N := 6) (a0 := (6, .inl (fun _ => 0))) (fun _ => rfl) (by decide) (by decide) (by decide) (by rw [hF.2.2.2.2]; exact Nat.le_of_ble_eq_true rfl) (by rw [hF.2.2.2.2]; exact Nat.le_of_ble_eq_true rfl) dX5_init_23 (fun H hG => ?_)
  have hG := hG
  refine g_putF hF hG ((gU_n n_a_q3).trans ((gU_n n_a_q2).trans ((gU_n n_a_q1).trans gU_s))) l_a (C := RX5) (T := TX5) (N := 5) rfl in_X5 tyX5 tyX5_ok nmX5 2 (by decide) q571 (fun _ h => h) rfl (hin rfl) rfl (by first | rfl | decide) rfl (Nat.le_of_ble_eq_true rfl) dX5_init_25 (fun H locs hG => ?_)
  rw [gU_sw n_a_q3, gU_sw n_a_q2, gU_sw n_a_q1, gU_ov] at hG
  have hG : gJK g L0 A s.heap (gU (gU (gU (gU G a (.inr (4, [.ref sz, .ref (sz + 1), .ref (sz + 2), .int many, Value.null]))) sz (.inl (g.2.1 0, 72, .inl (fun _ => 0)))) (sz + 1) (.inl (g.2.1 0, 6, .inl (fun _ => 0)))) (sz + 2) (.inl (g.2.1 0, 6, .inl (fun _ => 0)))) (sz + 3) H locs := hG
  refine lv_aload_n hx hb dX5_init_28 rfl (lv_at hl 0 rfl) ?_
  refine lv_aload_n hx hb dX5_init_29 rfl (lv_at hl 1 rfl) ?_
  refine g_put hF hG ((gU_n n_a_q3).trans ((gU_n n_a_q2).trans ((gU_n n_a_q1).trans gU_s))) l_a (C := RX5) (T := TX5) (N := 5) rfl in_X5 tyX5 tyX5_ok nmX5 4 (by decide) q576 (fun _ h => h) rfl (by first | rfl | decide) rfl (Nat.le_of_ble_eq_true rfl) dX5_init_30 (fun H locs hG => ?_)
  rw [gU_sw n_a_q3, gU_sw n_a_q2, gU_sw n_a_q1, gU_ov] at hG
  have hG : gJK g L0 A s.heap (gU (gU (gU (gU G a (.inr (4, [.ref sz, .ref (sz + 1), .ref (sz + 2), .int many, .ref sr]))) sz (.inl (g.2.1 0, 72, .inl (fun _ => 0)))) (sz + 1) (.inl (g.2.1 0, 6, .inl (fun _ => 0)))) (sz + 2) (.inl (g.2.1 0, 6, .inl (fun _ => 0)))) (sz + 3) H locs := hG
  have h := Option.some.inj h
  exact g_vret hQ hG ⟨rfl, rfl, rfl⟩ (Nat.le_of_ble_eq_true rfl) (Nat.le_of_ble_eq_true rfl) dX5_init_33
/-! X1_put -/
def j_X1_put_L1 (p0 : Int32) : Nat → Int32 → Int32 → (Nat → Int32) → Option (Int32 × (Nat → Int32))
  | 0, _, _, _ => none
  | n + 1, y2, y3, y4 =>
    if y2 < 0 then (
    some (y3, y4))
    else (
    ob1 (wrF 900 y4 y3 (vp_nar .byte (((p0 >>> (y2 &&& 31))).toInt8.toInt32))) fun (f5 : Nat → Int32) =>
    nm (y3 + 1) fun (x6 : Int32) =>
    nm (y2 + (-8)) fun (x7 : Int32) =>
    j_X1_put_L1 p0 n x7 x6 f5)
def j_X1_put (x : Nat) (p0 : Int32) (bb : Nat) (bu : Int32) (ec : Int32) (ep : Int32) (f : Nat → Int32) : Option ((Nat → Int32) × Int32) :=
ob2 (
j_X1_put_L1 p0 4096 24 bu f) fun (z8 : Int32) (z9 : (Nat → Int32)) =>
some (z9, z8)
set_option maxRecDepth 100000 in
theorem w_X1_put {l : Launch} {g : gNum} {L0 sz : Nat} {G : GH} {x : Nat} {p0 : Int32} {bb : Nat} {bu : Int32} {ec : Int32} {ep : Int32} {vst : Value} {vhi : Value} {vso : Value} {f : Nat → Int32} (f_x : G x = some (.inr (0, [.ref bb, .int bu, .int ec, .int ep, vst, vhi, vso]))) (f_bb : G bb = some (.inl (g.2.1 1, 900, .inl f))) (l_x : L0 ≤ x) (l_bb : L0 ≤ bb) {out : (Nat → Int32) × Int32} (h : j_X1_put x p0 bb bu ec ep f = some out) : gMet l yX1_put (ws_ yX1_put cX1_put 3 none) g.1 clX L0 (gK g) [.ref x, .int p0] G sz 0 0 0 0 (fun v G2 n2 => v = none ∧ G2 = gU (gU G x (.inr (0, [.ref bb, .int out.2, .int ec, .int ep, vst, vhi, vso]))) bb (.inl (g.2.1 1, 900, .inl out.1)) ∧ n2 = sz) := by
  refine gMet.of (own := RX1) (gK_ok g) (by decide +kernel) (Nat.le_of_ble_eq_true rfl) rfl ?_
  intro p e R s m args below meth c A Q ls H hF hQ hin hG hl
  have hx := hF.1.1
  have hb := hF.1.2.1
  have hts := hF.1.2.2.2.2
  have hl : lv_has ls 3 [(0, .ref x), (1, .int p0)] := hl
  have n_x_bb : x ≠ bb := fun q => by rw [q, f_bb] at f_x; simp at f_x
  have n_bb_x : bb ≠ x := Ne.symm n_x_bb
  have hG : gJK g L0 A s.heap (gU (gU G x (.inr (0, [.ref bb, .int bu, .int ec, .int ep, vst, vhi, vso]))) bb (.inl (g.2.1 1, 900, .inl f))) sz H [] := by
    rw [gU_id f_x, gU_id f_bb]
    exact hG
  unfold j_X1_put at h
  refine lv_bipush (v := 24) hx hb dX1_put_0 (by decide) ?_
  refine lv_istore_n hx hb dX1_put_2 rfl hl (Nat.le_of_ble_eq_true rfl) (lv' := [(2, .int 24), (0, .ref x), (1, .int p0)]) rfl (fun ls hl => ?_)
  obtain ⟨X1, h, hJ1⟩ := ob2_u h
  have J1 : ∀ (z8 : Int32) (z9 : (Nat → Int32)), X1 = (z8, z9) → ∀ (H : Heap) (locs : List Loc) (ls : Array Slot), gJK g L0 A s.heap (gU (gU G x (.inr (0, [.ref bb, .int z8, .int ec, .int ep, vst, vhi, vso]))) bb (.inl (g.2.1 1, 900, .inl z9))) sz H locs → lv_has ls 3 [] → W p l e R s m args below meth c H locs 0 0 Q (F0 m 36 ls []) := by
    intro z8 z9 e0 H locs ls hG hl
    have h := hJ1 z8 z9 e0
    have h := Option.some.inj h
    subst h
    exact g_vret hQ hG ⟨rfl, rfl, rfl⟩ (Nat.le_of_ble_eq_true rfl) (Nat.le_of_ble_eq_true rfl) dX1_put_36
  have LL1 : ∀ (n : Nat) (y2 : Int32) (y3 : Int32) (y4 : (Nat → Int32)), j_X1_put_L1 p0 n y2 y3 y4 = some X1 → ∀ (H : Heap) (locs : List Loc) (ls : Array Slot), gJK g L0 A s.heap (gU (gU G x (.inr (0, [.ref bb, .int y3, .int ec, .int ep, vst, vhi, vso]))) bb (.inl (g.2.1 1, 900, .inl y4))) sz H locs → lv_has ls 3 [(0, .ref x), (1, .int p0), (2, .int y2)] → W p l e R s m args below meth c H locs 0 0 Q (F0 m 3 ls []) := by
    intro n
    induction n with
    | zero =>
      intro y2 y3 y4 h
      rw [j_X1_put_L1] at h
      cases h
    | succ n ihL1 =>
      intro y2 y3 y4 h H locs ls hG hl
      rw [j_X1_put_L1] at h
      refine lv_iload_n hx hb dX1_put_3 rfl (lv_at hl 2 rfl) ?_
      refine gb_if_lt hx hb dX1_put_4 (tgt := 36) (by decide) h (fun h => ?_) (fun h => ?_)
      · exact J1 _ _ (Option.some.inj h).symm _ _ _ hG (lv_sub hl [] rfl)
      · refine lv_aload_n hx hb dX1_put_7 rfl (lv_at hl 0 rfl) ?_
        refine g_get hF hG ((gU_n n_x_bb).trans gU_s) (C := RX1) (T := TX1) (N := 7) rfl in_X1 0 (by decide) q749 (fun _ h => h) (v := .ref bb) rfl dX1_put_8 ?_
        refine lv_aload_n hx hb dX1_put_11 rfl (lv_at hl 0 rfl) ?_
        refine g_get hF hG ((gU_n n_x_bb).trans gU_s) (C := RX1) (T := TX1) (N := 7) rfl in_X1 1 (by decide) q751 (fun _ h => h) (v := .int y3) rfl dX1_put_12 ?_
        refine lv_iload_n hx hb dX1_put_15 rfl (lv_at hl 1 rfl) ?_
        refine lv_iload_n hx hb dX1_put_16 rfl (lv_at hl 2 rfl) ?_
        refine lv_ishr hx hb dX1_put_17 ?_
        refine lv_i2b hx hb dX1_put_18 rfl ?_
        refine c_bast hF hG gU_s l_bb h dX1_put_19 (fun f5 H locs h hG => ?_)
        rw [gU_ov] at hG
        have hG : gJK g L0 A s.heap (gU (gU G x (.inr (0, [.ref bb, .int y3, .int ec, .int ep, vst, vhi, vso]))) bb (.inl (g.2.1 1, 900, .inl f5))) sz H locs := hG
        refine lv_aload_n hx hb dX1_put_20 rfl (lv_at hl 0 rfl) ?_
        refine lv_dup hx hb dX1_put_21 rfl ?_
        refine g_get hF hG ((gU_n n_x_bb).trans gU_s) (C := RX1) (T := TX1) (N := 7) rfl in_X1 1 (by decide) q751 (fun _ h => h) (v := .int y3) rfl dX1_put_22 ?_
        refine lv_iconst (v := 1) hx hb dX1_put_25 (by decide) ?_
        refine lv_iadd hx hb dX1_put_26 ?_
        refine gb_nm h (fun x6 h => ?_)
        refine g_put hF hG ((gU_n n_x_bb).trans gU_s) l_x (C := RX1) (T := TX1) (N := 7) rfl in_X1 tyX1 tyX1_ok nmX1 1 (by decide) q751 (fun _ h => h) rfl (by first | rfl | decide) rfl (Nat.le_of_ble_eq_true rfl) dX1_put_27 (fun H locs hG => ?_)
        rw [gU_sw n_x_bb, gU_ov] at hG
        have hG : gJK g L0 A s.heap (gU (gU G x (.inr (0, [.ref bb, .int x6, .int ec, .int ep, vst, vhi, vso]))) bb (.inl (g.2.1 1, 900, .inl f5))) sz H locs := hG
        refine gb_iinc (k' := (-8)) hx hb dX1_put_30 hl (k := 2) rfl (by decide) (Nat.le_of_ble_eq_true rfl) h (fun x7 ls h hl => ?_)
        have hl : lv_has ls 3 [(2, .int x7), (0, .ref x), (1, .int p0)] := hl
        refine lv_goto hx hb dX1_put_33 (tgt := 3) (by decide) ?_
        exact ihL1 _ _ _ h _ _ _ hG (lv_sub hl [1, 2, 0] rfl)
  exact LL1 _ _ _ _ h _ _ _ hG (lv_sub hl [1, 2, 0] rfl)
