/-! J14_checkIndex -/
def j_J14_checkIndex (i : Int32) (n : Int32) : Option (Int32) :=
if i < 0 then (
none)
else (
if i < n then (
some i)
else (
none))
set_option maxRecDepth 100000 in
theorem w_J14_checkIndex {l : Launch} {g : gNum} {L0 sz : Nat} {G : GH} {i : Int32} {n : Int32} {z : Option Nat} {out : Int32} (h : j_J14_checkIndex i n = some out) : gMet l yJ14_checkIndex (ws_ yJ14_checkIndex cJ14_checkIndex 3 (some .int)) g.1 clX L0 (gK g) [.int i, .int n, va_rf z] G sz 0 0 0 0 (fun v G2 n2 => v = some (.int out) ∧ G2 = G ∧ n2 = sz) := by
  refine gMet.of (own := RJ14) (gK_ok g) (by decide +kernel) (by cases z <;> exact Nat.le_of_ble_eq_true rfl) rfl ?_
  intro p e R s m args below meth c A Q ls H hF hQ hin hG hl
  have hx := hF.1.1
  have hb := hF.1.2.1
  have hts := hF.1.2.2.2.2
  have hl : lv_has ls 3 [(0, .int i), (1, .int n), (2, va_rf z)] := hl
  unfold j_J14_checkIndex at h
  refine lv_iload_n hx hb dJ14_checkIndex_0 rfl (lv_at hl 0 rfl) ?_
  refine gb_if_lt hx hb dJ14_checkIndex_1 (tgt := 9) (by decide) h (fun h => ?_) (fun h => ?_)
  · cases h
  · refine lv_iload_n hx hb dJ14_checkIndex_4 rfl (lv_at hl 0 rfl) ?_
    refine lv_iload_n hx hb dJ14_checkIndex_5 rfl (lv_at hl 1 rfl) ?_
    refine gb_icmp_lt hx hb dJ14_checkIndex_6 (tgt := 16) (by decide) h (fun h => ?_) (fun h => ?_)
    · refine lv_iload_n hx hb dJ14_checkIndex_16 rfl (lv_at hl 0 rfl) ?_
      have h := Option.some.inj h
      subst h
      exact g_iret hQ hG ⟨rfl, rfl, rfl⟩ (Nat.le_of_ble_eq_true rfl) (Nat.le_of_ble_eq_true rfl) dJ14_checkIndex_17
    · cases h
/-! J17_checkIndex -/
def j_J17_checkIndex (i : Int32) (n : Int32) : Option (Int32) :=
ob1 (j_J14_checkIndex i n) fun (v1 : Int32) =>
some v1
set_option maxRecDepth 100000 in
theorem w_J17_checkIndex {l : Launch} {g : gNum} {L0 sz : Nat} {G : GH} {i : Int32} {n : Int32} {out : Int32} (h : j_J17_checkIndex i n = some out) : gMet l yJ17_checkIndex (ws_ yJ17_checkIndex cJ17_checkIndex 2 (some .int)) g.1 clX L0 (gK g) [.int i, .int n] G sz 1 22 0 0 (fun v G2 n2 => v = some (.int out) ∧ G2 = G ∧ n2 = sz) := by
  refine gMet.of (own := RJ17) (gK_ok g) (by decide +kernel) (Nat.le_of_ble_eq_true rfl) rfl ?_
  intro p e R s m args below meth c A Q ls H hF hQ hin hG hl
  have hx := hF.1.1
  have hb := hF.1.2.1
  have hts := hF.1.2.2.2.2
  have hl : lv_has ls 2 [(0, .int i), (1, .int n)] := hl
  unfold j_J17_checkIndex at h
  refine lv_iload_n hx hb dJ17_checkIndex_0 rfl (lv_at hl 0 rfl) ?_
  refine lv_iload_n hx hb dJ17_checkIndex_1 rfl (lv_at hl 1 rfl) ?_
  refine lv_null hx hb dJ17_checkIndex_2 ?_
  obtain ⟨v1, hr, h⟩ := ob1_e h
  refine g_callS hF hG hl (w_J14_checkIndex (g := g) (l := l) (L0 := L0) (G := (G)) (sz := sz) (i := i) (n := n) (z := none)     hr) (va_cwS 3 hF.1.2.2.2.2 (lw_S q722 q723 q100 q724) rfl rfl rfl (by decide +kernel) (g_room hF (Nat.le_of_ble_eq_true rfl) (Nat.le_of_ble_eq_true rfl))) rfl rfl (Nat.le_of_ble_eq_true rfl) dJ17_checkIndex_3 ⟨by rw [hF.2.2.2.2]; exact Nat.le_of_ble_eq_true rfl, by rw [hF.2.2.2.2]; exact Nat.le_of_ble_eq_true rfl⟩ (fun v0 G1 n1 H locs hR hG => ?_)
  obtain ⟨hv0, hg1, hn1⟩ := hR
  subst hv0
  rw [hg1, hn1] at hG
  have hG : gJK g L0 A s.heap (G) sz H locs := hG
  have h := Option.some.inj h
  subst h
  exact g_iret hQ hG ⟨rfl, rfl, rfl⟩ (Nat.le_of_ble_eq_true rfl) (Nat.le_of_ble_eq_true rfl) dJ17_checkIndex_6
/-! J2_size -/
def j_J2_size (a : Nat) (mod : Int32) (ar : Nat) (k : Int32) : Option (Int32) :=
some k
set_option maxRecDepth 100000 in
theorem w_J2_size {l : Launch} {g : gNum} {L0 sz : Nat} {G : GH} {a : Nat} {mod : Int32} {ar : Nat} {k : Int32} (f_a : G a = some (.inr (12, [.int mod, .ref ar, .int k]))) {out : Int32} (h : j_J2_size a mod ar k = some out) : gMet l yJ2_size (ws_ yJ2_size cJ2_size 1 (some .int)) g.1 clX L0 (gK g) [.ref a] G sz 0 0 0 0 (fun v G2 n2 => v = some (.int out) ∧ G2 = G ∧ n2 = sz) := by
  refine gMet.of (own := RJ2) (gK_ok g) (by decide +kernel) (Nat.le_of_ble_eq_true rfl) rfl ?_
  intro p e R s m args below meth c A Q ls H hF hQ hin hG hl
  have hx := hF.1.1
  have hb := hF.1.2.1
  have hts := hF.1.2.2.2.2
  have hl : lv_has ls 1 [(0, .ref a)] := hl
  unfold j_J2_size at h
  refine lv_aload_n hx hb dJ2_size_0 rfl (lv_at hl 0 rfl) ?_
  refine g_get hF hG f_a (C := RJ2) (T := TJ2) (N := 3) rfl in_J2 2 (by decide) q476 (fun _ h => h) (v := .int k) rfl dJ2_size_1 ?_
  have h := Option.some.inj h
  subst h
  exact g_iret hQ hG ⟨rfl, rfl, rfl⟩ (Nat.le_of_ble_eq_true rfl) (Nat.le_of_ble_eq_true rfl) dJ2_size_4
/-! J2_elementData -/
def j_J2_elementData (a : Nat) (i : Int32) (mod : Int32) (ar : Nat) (k : Int32) (cap : Nat) (f : Nat → Option Nat) : Option (Option Nat) :=
ob1 (rdF cap f i) fun (q1 : Option Nat) =>
some q1
set_option maxRecDepth 100000 in
theorem w_J2_elementData {l : Launch} {g : gNum} {L0 sz : Nat} {G : GH} {a : Nat} {i : Int32} {mod : Int32} {ar : Nat} {k : Int32} {cap : Nat} {f : Nat → Option Nat} (f_a : G a = some (.inr (12, [.int mod, .ref ar, .int k]))) (f_ar : G ar = some (.inl (g.2.1 4, cap, .inr (.inr (.inr (.inr f)))))) {out : Option Nat} (h : j_J2_elementData a i mod ar k cap f = some out) : gMet l yJ2_elementData (ws_ yJ2_elementData cJ2_elementData 2 (some (.object "java/lang/Object"))) g.1 clX L0 (gK g) [.ref a, .int i] G sz 0 0 0 0 (fun v G2 n2 => v = some (va_rf out) ∧ G2 = G ∧ n2 = sz) := by
  refine gMet.of (own := RJ2) (gK_ok g) (by decide +kernel) (Nat.le_of_ble_eq_true rfl) rfl ?_
  intro p e R s m args below meth c A Q ls H hF hQ hin hG hl
  have hx := hF.1.1
  have hb := hF.1.2.1
  have hts := hF.1.2.2.2.2
  have hl : lv_has ls 2 [(0, .ref a), (1, .int i)] := hl
  unfold j_J2_elementData at h
  refine lv_aload_n hx hb dJ2_elementData_0 rfl (lv_at hl 0 rfl) ?_
  refine g_get hF hG f_a (C := RJ2) (T := TJ2) (N := 3) rfl in_J2 1 (by decide) q473 (fun _ h => h) (v := .ref ar) rfl dJ2_elementData_1 ?_
  refine lv_iload_n hx hb dJ2_elementData_4 rfl (lv_at hl 1 rfl) ?_
  refine c_aald hF hG f_ar 4 rfl h dJ2_elementData_5 (fun q1 h => ?_)
  have h := Option.some.inj h
  subst h
  exact g_aret hQ (by first | exact Or.inl ⟨_, rfl⟩ | exact Or.inr ⟨_, rfl⟩) hG (va_rf_or _) ⟨rfl, rfl, rfl⟩ (Nat.le_of_ble_eq_true rfl) (Nat.le_of_ble_eq_true rfl) dJ2_elementData_6
/-! J2_get -/
def j_J2_get (a : Nat) (i : Int32) (mod : Int32) (ar : Nat) (k : Int32) (cap : Nat) (f : Nat → Option Nat) : Option (Option Nat) :=
ob1 (j_J17_checkIndex i k) fun (v1 : Int32) =>
ob1 (j_J2_elementData a i mod ar k cap f) fun (q2 : Option Nat) =>
some q2
set_option maxRecDepth 100000 in
theorem w_J2_get {l : Launch} {g : gNum} {L0 sz : Nat} {G : GH} {a : Nat} {i : Int32} {mod : Int32} {ar : Nat} {k : Int32} {cap : Nat} {f : Nat → Option Nat} (f_a : G a = some (.inr (12, [.int mod, .ref ar, .int k]))) (f_ar : G ar = some (.inl (g.2.1 4, cap, .inr (.inr (.inr (.inr f)))))) {out : Option Nat} (h : j_J2_get a i mod ar k cap f = some out) : gMet l yJ2_get (ws_ yJ2_get cJ2_get 2 (some (.object "java/lang/Object"))) g.1 clX L0 (gK g) [.ref a, .int i] G sz 2 43 0 0 (fun v G2 n2 => v = some (va_rf out) ∧ G2 = G ∧ n2 = sz) := by
  refine gMet.of (own := RJ2) (gK_ok g) (by decide +kernel) (Nat.le_of_ble_eq_true rfl) rfl ?_
  intro p e R s m args below meth c A Q ls H hF hQ hin hG hl
  have hx := hF.1.1
  have hb := hF.1.2.1
  have hts := hF.1.2.2.2.2
  have hl : lv_has ls 2 [(0, .ref a), (1, .int i)] := hl
  unfold j_J2_get at h
  refine lv_iload_n hx hb dJ2_get_0 rfl (lv_at hl 1 rfl) ?_
  refine lv_aload_n hx hb dJ2_get_1 rfl (lv_at hl 0 rfl) ?_
  refine g_get hF hG f_a (C := RJ2) (T := TJ2) (N := 3) rfl in_J2 2 (by decide) q476 (fun _ h => h) (v := .int k) rfl dJ2_get_2 ?_
  obtain ⟨v1, hr, h⟩ := ob1_e h
  refine g_callS hF hG hl (w_J17_checkIndex (g := g) (l := l) (L0 := L0) (G := (G)) (sz := sz) (i := i) (n := k)     hr) (va_cwS 2 hF.1.2.2.2.2 (lw_S q719 q720 q106 q721) rfl rfl rfl (by decide +kernel) (g_room hF (Nat.le_of_ble_eq_true rfl) (Nat.le_of_ble_eq_true rfl))) rfl rfl (Nat.le_of_ble_eq_true rfl) dJ2_get_5 ⟨by rw [hF.2.2.2.2]; exact Nat.le_of_ble_eq_true rfl, by rw [hF.2.2.2.2]; exact Nat.le_of_ble_eq_true rfl⟩ (fun v0 G1 n1 H locs hR hG => ?_)
  obtain ⟨hv0, hg1, hn1⟩ := hR
  subst hv0
  rw [hg1, hn1] at hG
  have hG : gJK g L0 A s.heap (G) sz H locs := hG
  refine lv_pop hx hb dJ2_get_8 rfl ?_
  refine lv_aload_n hx hb dJ2_get_9 rfl (lv_at hl 0 rfl) ?_
  refine lv_iload_n hx hb dJ2_get_10 rfl (lv_at hl 1 rfl) ?_
  obtain ⟨q2, hr, h⟩ := ob1_e h
  refine g_callV hF hG hl f_a (C := RJ2) (T := TJ2) (N := 3) rfl (w_J2_elementData (g := g) (l := l) (L0 := L0) (G := (G)) (sz := sz) (a := a) (i := i) (mod := mod) (ar := ar) (k := k) (cap := cap) (f := f) (f_a := f_a) (f_ar := f_ar)    hr) (cwV 1 hF.1.2.2.2.2 (lw_V q725 q726 q727 q87 q728) rfl rfl rfl (by decide +kernel) (g_room hF (Nat.le_of_ble_eq_true rfl) (Nat.le_of_ble_eq_true rfl))) rfl rfl (Nat.le_of_ble_eq_true rfl) dJ2_get_11 ⟨by rw [hF.2.2.2.2]; exact Nat.le_of_ble_eq_true rfl, by rw [hF.2.2.2.2]; exact Nat.le_of_ble_eq_true rfl⟩ (fun v0 G1 n1 H locs hR hG => ?_)
  obtain ⟨hv0, hg1, hn1⟩ := hR
  subst hv0
  rw [hg1, hn1] at hG
  have hG : gJK g L0 A s.heap (G) sz H locs := hG
  have h := Option.some.inj h
  subst h
  exact g_aret hQ (by first | exact Or.inl ⟨_, rfl⟩ | exact Or.inr ⟨_, rfl⟩) hG (va_rf_or _) ⟨rfl, rfl, rfl⟩ (Nat.le_of_ble_eq_true rfl) (Nat.le_of_ble_eq_true rfl) dJ2_get_14
/-! J24_checkForComodification -/
def j_J24_checkForComodification (it : Nat) (cur : Int32) (last : Int32) (exp : Int32) (a : Nat) (mod : Int32) (ar : Nat) (k : Int32) : Option (Unit) :=
if mod = exp then (
some ())
else (
none)
set_option maxRecDepth 100000 in
theorem w_J24_checkForComodification {l : Launch} {g : gNum} {L0 sz : Nat} {G : GH} {it : Nat} {cur : Int32} {last : Int32} {exp : Int32} {a : Nat} {mod : Int32} {ar : Nat} {k : Int32} (f_it : G it = some (.inr (14, [.int cur, .int last, .int exp, .ref a]))) (f_a : G a = some (.inr (12, [.int mod, .ref ar, .int k]))) {out : Unit} (h : j_J24_checkForComodification it cur last exp a mod ar k = some out) : gMet l yJ24_checkForComodification (ws_ yJ24_checkForComodification cJ24_checkForComodification 1 none) g.1 clX L0 (gK g) [.ref it] G sz 0 0 0 0 (fun v G2 n2 => v = none ∧ G2 = G ∧ n2 = sz) := by
  refine gMet.of (own := RJ24) (gK_ok g) (by decide +kernel) (Nat.le_of_ble_eq_true rfl) rfl ?_
  intro p e R s m args below meth c A Q ls H hF hQ hin hG hl
  have hx := hF.1.1
  have hb := hF.1.2.1
  have hts := hF.1.2.2.2.2
  have hl : lv_has ls 1 [(0, .ref it)] := hl
  unfold j_J24_checkForComodification at h
  refine lv_aload_n hx hb dJ24_checkForComodification_0 rfl (lv_at hl 0 rfl) ?_
  refine g_get hF hG f_it (C := RJ24) (T := TJ24) (N := 4) rfl in_J24 3 (by decide) q1614 (fun _ h => h) (v := .ref a) rfl dJ24_checkForComodification_1 ?_
  refine g_get hF hG f_a (C := RJ2) (T := TJ2) (N := 3) rfl in_J2 0 (by decide) q478 (fun x hx0 => u_same (hts _ q479) x hx0) (v := .int mod) rfl dJ24_checkForComodification_4 ?_
  refine lv_aload_n hx hb dJ24_checkForComodification_7 rfl (lv_at hl 0 rfl) ?_
  refine g_get hF hG f_it (C := RJ24) (T := TJ24) (N := 4) rfl in_J24 2 (by decide) q1613 (fun _ h => h) (v := .int exp) rfl dJ24_checkForComodification_8 ?_
  refine gb_icmp_eq hx hb dJ24_checkForComodification_11 (tgt := 22) (by decide) h (fun h => ?_) (fun h => ?_)
  · have h := Option.some.inj h
    subst h
    exact g_vret hQ hG ⟨rfl, rfl, rfl⟩ (Nat.le_of_ble_eq_true rfl) (Nat.le_of_ble_eq_true rfl) dJ24_checkForComodification_22
  · cases h
/-! J24_hasNext -/
def j_J24_hasNext (it : Nat) (cur : Int32) (last : Int32) (exp : Int32) (a : Nat) (mod : Int32) (ar : Nat) (k : Int32) : Option (Int32) :=
if cur = k then (
some 0)
else (
some 1)
set_option maxRecDepth 100000 in
theorem w_J24_hasNext {l : Launch} {g : gNum} {L0 sz : Nat} {G : GH} {it : Nat} {cur : Int32} {last : Int32} {exp : Int32} {a : Nat} {mod : Int32} {ar : Nat} {k : Int32} (f_it : G it = some (.inr (14, [.int cur, .int last, .int exp, .ref a]))) (f_a : G a = some (.inr (12, [.int mod, .ref ar, .int k]))) {out : Int32} (h : j_J24_hasNext it cur last exp a mod ar k = some out) : gMet l yJ24_hasNext (ws_ yJ24_hasNext cJ24_hasNext 1 (some .boolean)) g.1 clX L0 (gK g) [.ref it] G sz 0 0 0 0 (fun v G2 n2 => v = some (.int out) ∧ G2 = G ∧ n2 = sz) := by
  refine gMet.of (own := RJ24) (gK_ok g) (by decide +kernel) (Nat.le_of_ble_eq_true rfl) rfl ?_
  intro p e R s m args below meth c A Q ls H hF hQ hin hG hl
  have hx := hF.1.1
  have hb := hF.1.2.1
  have hts := hF.1.2.2.2.2
  have hl : lv_has ls 1 [(0, .ref it)] := hl
  unfold j_J24_hasNext at h
  refine lv_aload_n hx hb dJ24_hasNext_0 rfl (lv_at hl 0 rfl) ?_
  refine g_get hF hG f_it (C := RJ24) (T := TJ24) (N := 4) rfl in_J24 0 (by decide) q1611 (fun _ h => h) (v := .int cur) rfl dJ24_hasNext_1 ?_
  refine lv_aload_n hx hb dJ24_hasNext_4 rfl (lv_at hl 0 rfl) ?_
  refine g_get hF hG f_it (C := RJ24) (T := TJ24) (N := 4) rfl in_J24 3 (by decide) q1614 (fun _ h => h) (v := .ref a) rfl dJ24_hasNext_5 ?_
  refine g_getN hF hG f_a (C := RJ2) (T := TJ2) (N := 3) rfl in_J2 2 (by decide) q475 (fun _ h => h) (v := .int k) rfl dJ24_hasNext_8 ?_
  refine gb_icmp_eq hx hb dJ24_hasNext_11 (tgt := 18) (by decide) h (fun h => ?_) (fun h => ?_)
  · refine lv_iconst (v := 0) hx hb dJ24_hasNext_18 (by decide) ?_
    have h := Option.some.inj h
    subst h
    exact g_nret hQ hG (by decide) ⟨rfl, rfl, rfl⟩ (Nat.le_of_ble_eq_true rfl) (Nat.le_of_ble_eq_true rfl) dJ24_hasNext_19
  · refine lv_iconst (v := 1) hx hb dJ24_hasNext_14 (by decide) ?_
    refine lv_goto hx hb dJ24_hasNext_15 (tgt := 19) (by decide) ?_
    have h := Option.some.inj h
    subst h
    exact g_nret hQ hG (by decide) ⟨rfl, rfl, rfl⟩ (Nat.le_of_ble_eq_true rfl) (Nat.le_of_ble_eq_true rfl) dJ24_hasNext_19
/-! J24_next -/
def j_J24_next (it : Nat) (cur : Int32) (last : Int32) (exp : Int32) (a : Nat) (mod : Int32) (ar : Nat) (k : Int32) (cap : Nat) (f : Nat → Option Nat) : Option (Option Nat × Int32 × Int32) :=
ob0 (j_J24_checkForComodification it cur last exp a mod ar k) <|
if cur < k then (
if cur < (Int32.ofNat cap) then (
nm (cur + 1) fun (x1 : Int32) =>
ob1 (rdF cap f cur) fun (q2 : Option Nat) =>
some (q2, x1, cur))
else (
none))
else (
none)
set_option maxRecDepth 100000 in
theorem w_J24_next {l : Launch} {g : gNum} {L0 sz : Nat} {G : GH} {it : Nat} {cur : Int32} {last : Int32} {exp : Int32} {a : Nat} {mod : Int32} {ar : Nat} {k : Int32} {cap : Nat} {f : Nat → Option Nat} (f_it : G it = some (.inr (14, [.int cur, .int last, .int exp, .ref a]))) (f_a : G a = some (.inr (12, [.int mod, .ref ar, .int k]))) (f_ar : G ar = some (.inl (g.2.1 4, cap, .inr (.inr (.inr (.inr f)))))) (l_it : L0 ≤ it) {out : Option Nat × Int32 × Int32} (h : j_J24_next it cur last exp a mod ar k cap f = some out) : gMet l yJ24_next (ws_ yJ24_next cJ24_next 3 (some (.object "java/lang/Object"))) g.1 clX L0 (gK g) [.ref it] G sz 1 20 0 0 (fun v G2 n2 => v = some (va_rf out.1) ∧ G2 = gU G it (.inr (14, [.int out.2.1, .int out.2.2, .int exp, .ref a])) ∧ n2 = sz) := by
  refine gMet.of (own := RJ24) (gK_ok g) (by decide +kernel) (Nat.le_of_ble_eq_true rfl) rfl ?_
  intro p e R s m args below meth c A Q ls H hF hQ hin hG hl
  have hx := hF.1.1
  have hb := hF.1.2.1
  have hts := hF.1.2.2.2.2
  have hl : lv_has ls 3 [(0, .ref it)] := hl
  have n_it_a : it ≠ a := fun q => by rw [q, f_a] at f_it; simp at f_it
  have n_it_ar : it ≠ ar := fun q => by rw [q, f_ar] at f_it; simp at f_it
  have n_a_it : a ≠ it := Ne.symm n_it_a
  have n_ar_it : ar ≠ it := Ne.symm n_it_ar
  have hG : gJK g L0 A s.heap (gU G it (.inr (14, [.int cur, .int last, .int exp, .ref a]))) sz H [] := by
    rw [gU_id f_it]
    exact hG
  unfold j_J24_next at h
  refine lv_aload_n hx hb dJ24_next_0 rfl (lv_at hl 0 rfl) ?_
  obtain ⟨hr, h⟩ := ob0_e h
  refine g_callV hF hG hl gU_s (C := RJ24) (T := TJ24) (N := 4) rfl (w_J24_checkForComodification (g := g) (l := l) (L0 := L0) (G := (gU G it (.inr (14, [.int cur, .int last, .int exp, .ref a])))) (sz := sz) (it := it) (cur := cur) (last := last) (exp := exp) (a := a) (mod := mod) (ar := ar) (k := k) (f_it := gU_s) (f_a := ((gU_n n_a_it).trans f_a))    hr) (cwV 0 hF.1.2.2.2.2 (lw_V q1643 q1644 q1645 q121 q1646) rfl rfl rfl (by decide +kernel) (g_room hF (Nat.le_of_ble_eq_true rfl) (Nat.le_of_ble_eq_true rfl))) rfl rfl (Nat.le_of_ble_eq_true rfl) dJ24_next_1 ⟨by rw [hF.2.2.2.2]; exact Nat.le_of_ble_eq_true rfl, by rw [hF.2.2.2.2]; exact Nat.le_of_ble_eq_true rfl⟩ (fun v0 G1 n1 H locs hR hG => ?_)
  obtain ⟨hv0, hg1, hn1⟩ := hR
  subst hv0
  rw [hg1, hn1] at hG
  have hG : gJK g L0 A s.heap (gU G it (.inr (14, [.int cur, .int last, .int exp, .ref a]))) sz H locs := hG
  refine lv_aload_n hx hb dJ24_next_4 rfl (lv_at hl 0 rfl) ?_
  refine g_get hF hG gU_s (C := RJ24) (T := TJ24) (N := 4) rfl in_J24 0 (by decide) q1611 (fun _ h => h) (v := .int cur) rfl dJ24_next_5 ?_
  refine lv_istore_n hx hb dJ24_next_8 rfl hl (Nat.le_of_ble_eq_true rfl) (lv' := [(1, .int cur), (0, .ref it)]) rfl (fun ls hl => ?_)
  refine lv_iload_n hx hb dJ24_next_9 rfl (lv_at hl 0 rfl) ?_
  refine lv_aload_n hx hb dJ24_next_10 rfl (lv_at hl 1 rfl) ?_
  refine g_get hF hG gU_s (C := RJ24) (T := TJ24) (N := 4) rfl in_J24 3 (by decide) q1614 (fun _ h => h) (v := .ref a) rfl dJ24_next_11 ?_
  refine g_getN hF hG ((gU_n n_a_it).trans f_a) (C := RJ2) (T := TJ2) (N := 3) rfl in_J2 2 (by decide) q475 (fun _ h => h) (v := .int k) rfl dJ24_next_14 ?_
  refine gb_icmp_lt hx hb dJ24_next_17 (tgt := 28) (by decide) h (fun h => ?_) (fun h => ?_)
  · refine lv_aload_n hx hb dJ24_next_28 rfl (lv_at hl 1 rfl) ?_
    refine g_get hF hG gU_s (C := RJ24) (T := TJ24) (N := 4) rfl in_J24 3 (by decide) q1614 (fun _ h => h) (v := .ref a) rfl dJ24_next_29 ?_
    refine g_get hF hG ((gU_n n_a_it).trans f_a) (C := RJ2) (T := TJ2) (N := 3) rfl in_J2 1 (by decide) q474 (fun _ h => h) (v := .ref ar) rfl dJ24_next_32 ?_
    refine lv_astore_n hx hb dJ24_next_35 rfl hl (Nat.le_of_ble_eq_true rfl) (lv' := [(2, .ref ar), (1, .int cur), (0, .ref it)]) rfl (fun ls hl => ?_)
    refine lv_iload_n hx hb dJ24_next_36 rfl (lv_at hl 1 rfl) ?_
    refine lv_aload_n hx hb dJ24_next_37 rfl (lv_at hl 0 rfl) ?_
    refine g_alen hF hG ((gU_n n_ar_it).trans f_ar) 4 rfl rfl dJ24_next_38 ?_
    refine gb_icmp_lt hx hb dJ24_next_39 (tgt := 50) (by decide) h (fun h => ?_) (fun h => ?_)
    · refine lv_aload_n hx hb dJ24_next_50 rfl (lv_at hl 2 rfl) ?_
      refine lv_iload_n hx hb dJ24_next_51 rfl (lv_at hl 1 rfl) ?_
      refine lv_iconst (v := 1) hx hb dJ24_next_52 (by decide) ?_
      refine lv_iadd hx hb dJ24_next_53 ?_
      refine gb_nm h (fun x1 h => ?_)
      refine g_put hF hG gU_s l_it (C := RJ24) (T := TJ24) (N := 4) rfl in_J24 tyJ24 tyJ24_ok nmJ24 0 (by decide) q1611 (fun _ h => h) rfl (by first | rfl | decide) rfl (Nat.le_of_ble_eq_true rfl) dJ24_next_54 (fun H locs hG => ?_)
      rw [gU_ov] at hG
      have hG : gJK g L0 A s.heap (gU G it (.inr (14, [.int x1, .int last, .int exp, .ref a]))) sz H locs := hG
      refine lv_aload_n hx hb dJ24_next_57 rfl (lv_at hl 0 rfl) ?_
      refine lv_aload_n hx hb dJ24_next_58 rfl (lv_at hl 2 rfl) ?_
      refine lv_iload_n hx hb dJ24_next_59 rfl (lv_at hl 1 rfl) ?_
      refine lv_dup_x1 hx hb dJ24_next_60 rfl rfl ?_
      refine g_put hF hG gU_s l_it (C := RJ24) (T := TJ24) (N := 4) rfl in_J24 tyJ24 tyJ24_ok nmJ24 1 (by decide) q1612 (fun _ h => h) rfl (by first | rfl | decide) rfl (Nat.le_of_ble_eq_true rfl) dJ24_next_61 (fun H locs hG => ?_)
      rw [gU_ov] at hG
      have hG : gJK g L0 A s.heap (gU G it (.inr (14, [.int x1, .int cur, .int exp, .ref a]))) sz H locs := hG
      refine c_aald hF hG ((gU_n n_ar_it).trans f_ar) 4 rfl h dJ24_next_64 (fun q2 h => ?_)
      have h := Option.some.inj h
      subst h
      exact g_aret hQ (by first | exact Or.inl ⟨_, rfl⟩ | exact Or.inr ⟨_, rfl⟩) hG (va_rf_or _) ⟨rfl, rfl, rfl⟩ (Nat.le_of_ble_eq_true rfl) (Nat.le_of_ble_eq_true rfl) dJ24_next_65
    · cases h
  · cases h
/-! X4_placeOf -/
def j_X4_placeOf_L1 (x : Int32) (many : Int32) (f : Nat → Int32) : Nat → Int32 → Option (Int32 ⊕ (Unit))
  | 0, _ => none
  | n + 1, y2 =>
    if many ≤ y2 then (
    some (Sum.inr ()))
    else (
    ob1 (rdF 12 f y2) fun (v3 : Int32) =>
    if v3 = x then (
    some (Sum.inl y2))
    else (
    nm (y2 + 1) fun (x4 : Int32) =>
    j_X4_placeOf_L1 x many f n x4))
def j_X4_placeOf (a : Nat) (x : Int32) (ra : Nat) (many : Int32) (f : Nat → Int32) : Option (Int32) :=
oe0 (ρ := Int32) (
j_X4_placeOf_L1 x many f 4096 0) (fun r => some r) (
some (-1))
set_option maxRecDepth 100000 in
theorem w_X4_placeOf {l : Launch} {g : gNum} {L0 sz : Nat} {G : GH} {a : Nat} {x : Int32} {ra : Nat} {many : Int32} {f : Nat → Int32} (f_a : G a = some (.inr (3, [.ref ra, .int many]))) (f_ra : G ra = some (.inl (g.2.1 0, 12, .inl f))) {out : Int32} (h : j_X4_placeOf a x ra many f = some out) : gMet l yX4_placeOf (ws_ yX4_placeOf cX4_placeOf 3 (some .int)) g.1 clX L0 (gK g) [.ref a, .int x] G sz 0 0 0 0 (fun v G2 n2 => v = some (.int out) ∧ G2 = G ∧ n2 = sz) := by
  refine gMet.of (own := RX4) (gK_ok g) (by decide +kernel) (Nat.le_of_ble_eq_true rfl) rfl ?_
  intro p e R s m args below meth c A Q ls H hF hQ hin hG hl
  have hx := hF.1.1
  have hb := hF.1.2.1
  have hts := hF.1.2.2.2.2
  have hl : lv_has ls 3 [(0, .ref a), (1, .int x)] := hl
  unfold j_X4_placeOf at h
  refine lv_iconst (v := 0) hx hb dX4_placeOf_0 (by decide) ?_
  refine lv_istore_n hx hb dX4_placeOf_1 rfl hl (Nat.le_of_ble_eq_true rfl) (lv' := [(2, .int 0), (0, .ref a), (1, .int x)]) rfl (fun ls hl => ?_)
  obtain ⟨X1, h, hE1, hJ1⟩ := oe0_u h
  have J1 : X1 = Sum.inr () → ∀ (H : Heap) (locs : List Loc) (ls : Array Slot), gJK g L0 A s.heap (G) sz H locs → lv_has ls 3 [] → W p l e R s m args below meth c H locs 0 0 Q (F0 m 28 ls []) := by
    intro  e0 H locs ls hG hl
    have h := hJ1 e0
    refine lv_iconst (v := (-1)) hx hb dX4_placeOf_28 (by decide) ?_
    have h := Option.some.inj h
    subst h
    exact g_iret hQ hG ⟨rfl, rfl, rfl⟩ (Nat.le_of_ble_eq_true rfl) (Nat.le_of_ble_eq_true rfl) dX4_placeOf_29
  have LL1 : ∀ (n : Nat) (y2 : Int32), j_X4_placeOf_L1 x many f n y2 = some X1 → ∀ (H : Heap) (locs : List Loc) (ls : Array Slot), gJK g L0 A s.heap (G) sz H locs → lv_has ls 3 [(0, .ref a), (1, .int x), (2, .int y2)] → W p l e R s m args below meth c H locs 0 0 Q (F0 m 2 ls []) := by
    intro n
    induction n with
    | zero =>
      intro y2 h
      rw [j_X4_placeOf_L1] at h
      cases h
    | succ n ihL1 =>
      intro y2 h H locs ls hG hl
      rw [j_X4_placeOf_L1] at h
      refine lv_iload_n hx hb dX4_placeOf_2 rfl (lv_at hl 2 rfl) ?_
      refine lv_aload_n hx hb dX4_placeOf_3 rfl (lv_at hl 0 rfl) ?_
      refine g_get hF hG f_a (C := RX4) (T := TX4) (N := 2) rfl in_X4 1 (by decide) q552 (fun _ h => h) (v := .int many) rfl dX4_placeOf_4 ?_
      refine gb_icmp_ge hx hb dX4_placeOf_7 (tgt := 28) (by decide) h (fun h => ?_) (fun h => ?_)
      · exact J1 (Option.some.inj h).symm _ _ _ hG (lv_sub hl [] rfl)
      · refine lv_aload_n hx hb dX4_placeOf_10 rfl (lv_at hl 0 rfl) ?_
        refine g_get hF hG f_a (C := RX4) (T := TX4) (N := 2) rfl in_X4 0 (by decide) q549 (fun _ h => h) (v := .ref ra) rfl dX4_placeOf_11 ?_
        refine lv_iload_n hx hb dX4_placeOf_14 rfl (lv_at hl 2 rfl) ?_
        refine c_iald hF hG f_ra h dX4_placeOf_15 (fun v3 h => ?_)
        refine lv_iload_n hx hb dX4_placeOf_16 rfl (lv_at hl 1 rfl) ?_
        refine gb_icmp_ne hx hb dX4_placeOf_17 (tgt := 22) (by decide) h (fun h => ?_) (fun h => ?_)
        · refine gb_iinc (k' := 1) hx hb dX4_placeOf_22 hl (k := 2) rfl (by decide) (Nat.le_of_ble_eq_true rfl) h (fun x4 ls h hl => ?_)
          have hl : lv_has ls 3 [(2, .int x4), (0, .ref a), (1, .int x)] := hl
          refine lv_goto hx hb dX4_placeOf_25 (tgt := 2) (by decide) ?_
          exact ihL1 _ h _ _ _ hG (lv_sub hl [1, 2, 0] rfl)
        · refine lv_iload_n hx hb dX4_placeOf_20 rfl (lv_at hl 2 rfl) ?_
          have h := hE1 _ (Option.some.inj h).symm
          have h := Option.some.inj h
          subst h
          exact g_iret hQ hG ⟨rfl, rfl, rfl⟩ (Nat.le_of_ble_eq_true rfl) (Nat.le_of_ble_eq_true rfl) dX4_placeOf_21
  exact LL1 _ _ h _ _ _ hG (lv_sub hl [1, 2, 0] rfl)
/-! X4_add -/
def j_X4_add (a : Nat) (x : Int32) (ra : Nat) (many : Int32) (f : Nat → Int32) : Option (Int32 × (Nat → Int32)) :=
ob1 (j_X4_placeOf a x ra many f) fun (v1 : Int32) =>
if v1 = (-1) then (
ob1 (wrF 12 f many x) fun (f2 : Nat → Int32) =>
nm (many + 1) fun (x3 : Int32) =>
some (x3, f2))
else (
some (many, f))
set_option maxRecDepth 100000 in
theorem w_X4_add {l : Launch} {g : gNum} {L0 sz : Nat} {G : GH} {a : Nat} {x : Int32} {ra : Nat} {many : Int32} {f : Nat → Int32} (f_a : G a = some (.inr (3, [.ref ra, .int many]))) (f_ra : G ra = some (.inl (g.2.1 0, 12, .inl f))) (l_a : L0 ≤ a) (l_ra : L0 ≤ ra) {out : Int32 × (Nat → Int32)} (h : j_X4_add a x ra many f = some out) : gMet l yX4_add (ws_ yX4_add cX4_add 2 none) g.1 clX L0 (gK g) [.ref a, .int x] G sz 1 22 0 0 (fun v G2 n2 => v = none ∧ G2 = gU (gU G a (.inr (3, [.ref ra, .int out.1]))) ra (.inl (g.2.1 0, 12, .inl out.2)) ∧ n2 = sz) := by
  refine gMet.of (own := RX4) (gK_ok g) (by decide +kernel) (Nat.le_of_ble_eq_true rfl) rfl ?_
  intro p e R s m args below meth c A Q ls H hF hQ hin hG hl
  have hx := hF.1.1
  have hb := hF.1.2.1
  have hts := hF.1.2.2.2.2
  have hl : lv_has ls 2 [(0, .ref a), (1, .int x)] := hl
  have n_a_ra : a ≠ ra := fun q => by rw [q, f_ra] at f_a; simp at f_a
  have n_ra_a : ra ≠ a := Ne.symm n_a_ra
  have hG : gJK g L0 A s.heap (gU (gU G a (.inr (3, [.ref ra, .int many]))) ra (.inl (g.2.1 0, 12, .inl f))) sz H [] := by
    rw [gU_id f_a, gU_id f_ra]
    exact hG
  unfold j_X4_add at h
  refine lv_aload_n hx hb dX4_add_0 rfl (lv_at hl 0 rfl) ?_
  refine lv_iload_n hx hb dX4_add_1 rfl (lv_at hl 1 rfl) ?_
  obtain ⟨v1, hr, h⟩ := ob1_e h
  refine g_callV hF hG hl ((gU_n n_a_ra).trans gU_s) (C := RX4) (T := TX4) (N := 2) rfl (w_X4_placeOf (g := g) (l := l) (L0 := L0) (G := (gU (gU G a (.inr (3, [.ref ra, .int many]))) ra (.inl (g.2.1 0, 12, .inl f)))) (sz := sz) (a := a) (x := x) (ra := ra) (many := many) (f := f) (f_a := ((gU_n n_a_ra).trans gU_s)) (f_ra := gU_s)    hr) (cwV 1 hF.1.2.2.2.2 (lw_V q836 q829 q830 q104 q831) rfl rfl rfl (by decide +kernel) (g_room hF (Nat.le_of_ble_eq_true rfl) (Nat.le_of_ble_eq_true rfl))) rfl rfl (Nat.le_of_ble_eq_true rfl) dX4_add_2 ⟨by rw [hF.2.2.2.2]; exact Nat.le_of_ble_eq_true rfl, by rw [hF.2.2.2.2]; exact Nat.le_of_ble_eq_true rfl⟩ (fun v0 G1 n1 H locs hR hG => ?_)
  obtain ⟨hv0, hg1, hn1⟩ := hR
  subst hv0
  rw [hg1, hn1] at hG
  have hG : gJK g L0 A s.heap (gU (gU G a (.inr (3, [.ref ra, .int many]))) ra (.inl (g.2.1 0, 12, .inl f))) sz H locs := hG
  refine lv_iconst (v := (-1)) hx hb dX4_add_5 (by decide) ?_
  refine gb_icmp_ne hx hb dX4_add_6 (tgt := 29) (by decide) h (fun h => ?_) (fun h => ?_)
  · have h := Option.some.inj h
    subst h
    exact g_vret hQ hG ⟨rfl, rfl, rfl⟩ (Nat.le_of_ble_eq_true rfl) (Nat.le_of_ble_eq_true rfl) dX4_add_29
  · refine lv_aload_n hx hb dX4_add_9 rfl (lv_at hl 0 rfl) ?_
    refine g_get hF hG ((gU_n n_a_ra).trans gU_s) (C := RX4) (T := TX4) (N := 2) rfl in_X4 0 (by decide) q549 (fun _ h => h) (v := .ref ra) rfl dX4_add_10 ?_
    refine lv_aload_n hx hb dX4_add_13 rfl (lv_at hl 0 rfl) ?_
    refine g_get hF hG ((gU_n n_a_ra).trans gU_s) (C := RX4) (T := TX4) (N := 2) rfl in_X4 1 (by decide) q552 (fun _ h => h) (v := .int many) rfl dX4_add_14 ?_
    refine lv_iload_n hx hb dX4_add_17 rfl (lv_at hl 1 rfl) ?_
    refine c_iast hF hG gU_s l_ra h dX4_add_18 (fun f2 H locs h hG => ?_)
    rw [gU_ov] at hG
    have hG : gJK g L0 A s.heap (gU (gU G a (.inr (3, [.ref ra, .int many]))) ra (.inl (g.2.1 0, 12, .inl f2))) sz H locs := hG
    refine lv_aload_n hx hb dX4_add_19 rfl (lv_at hl 0 rfl) ?_
    refine lv_dup hx hb dX4_add_20 rfl ?_
    refine g_get hF hG ((gU_n n_a_ra).trans gU_s) (C := RX4) (T := TX4) (N := 2) rfl in_X4 1 (by decide) q552 (fun _ h => h) (v := .int many) rfl dX4_add_21 ?_
    refine lv_iconst (v := 1) hx hb dX4_add_24 (by decide) ?_
    refine lv_iadd hx hb dX4_add_25 ?_
    refine gb_nm h (fun x3 h => ?_)
    refine g_put hF hG ((gU_n n_a_ra).trans gU_s) l_a (C := RX4) (T := TX4) (N := 2) rfl in_X4 tyX4 tyX4_ok nmX4 1 (by decide) q552 (fun _ h => h) rfl (by first | rfl | decide) rfl (Nat.le_of_ble_eq_true rfl) dX4_add_26 (fun H locs hG => ?_)
    rw [gU_sw n_a_ra, gU_ov] at hG
    have hG : gJK g L0 A s.heap (gU (gU G a (.inr (3, [.ref ra, .int x3]))) ra (.inl (g.2.1 0, 12, .inl f2))) sz H locs := hG
    have h := Option.some.inj h
    subst h
    exact g_vret hQ hG ⟨rfl, rfl, rfl⟩ (Nat.le_of_ble_eq_true rfl) (Nat.le_of_ble_eq_true rfl) dX4_add_29
/-! X5_sum -/
def j_X5_sum_L2 (cap : Nat) (f : Nat → Int32) (x1 : Int32) : Nat → Int32 → Int32 → Option (Int32)
  | 0, _, _ => none
  | n + 1, y3, y4 =>
    if x1 ≤ y4 then (
    some y3)
    else (
    ob1 (rdF cap f y4) fun (v5 : Int32) =>
    nm (y3 + v5) fun (x6 : Int32) =>
    nm (y4 + 1) fun (x7 : Int32) =>
    j_X5_sum_L2 cap f x1 n x6 x7)
def j_X5_sum (ra : Nat) (cap : Nat) (f : Nat → Int32) : Option (Int32) :=
nm (Int32.ofNat cap) fun (x1 : Int32) =>
ob1 (
j_X5_sum_L2 cap f x1 4096 0 0) fun (z8 : Int32) =>
some z8
set_option maxRecDepth 100000 in
theorem w_X5_sum {l : Launch} {g : gNum} {L0 sz : Nat} {G : GH} {ra : Nat} {cap : Nat} {f : Nat → Int32} (f_ra : G ra = some (.inl (g.2.1 0, cap, .inl f))) {out : Int32} (h : j_X5_sum ra cap f = some out) : gMet l yX5_sum (ws_ yX5_sum cX5_sum 6 (some .int)) g.1 clX L0 (gK g) [.ref ra] G sz 0 0 0 0 (fun v G2 n2 => v = some (.int out) ∧ G2 = G ∧ n2 = sz) := by
  refine gMet.of (own := RX5) (gK_ok g) (by decide +kernel) (Nat.le_of_ble_eq_true rfl) rfl ?_
  intro p e R s m args below meth c A Q ls H hF hQ hin hG hl
  have hx := hF.1.1
  have hb := hF.1.2.1
  have hts := hF.1.2.2.2.2
  have hl : lv_has ls 6 [(0, .ref ra)] := hl
  unfold j_X5_sum at h
  refine lv_iconst (v := 0) hx hb dX5_sum_0 (by decide) ?_
  refine lv_istore_n hx hb dX5_sum_1 rfl hl (Nat.le_of_ble_eq_true rfl) (lv' := [(1, .int 0), (0, .ref ra)]) rfl (fun ls hl => ?_)
  refine lv_aload_n hx hb dX5_sum_2 rfl (lv_at hl 1 rfl) ?_
  refine lv_astore_n hx hb dX5_sum_3 rfl hl (Nat.le_of_ble_eq_true rfl) (lv' := [(2, .ref ra), (1, .int 0), (0, .ref ra)]) rfl (fun ls hl => ?_)
  refine lv_aload_n hx hb dX5_sum_4 rfl (lv_at hl 0 rfl) ?_
  refine g_alen hF hG f_ra 0 rfl rfl dX5_sum_5 ?_
  refine gb_nm h (fun x1 h => ?_)
  refine lv_istore_n hx hb dX5_sum_6 rfl hl (Nat.le_of_ble_eq_true rfl) (lv' := [(3, .int x1), (2, .ref ra), (1, .int 0), (0, .ref ra)]) rfl (fun ls hl => ?_)
  refine lv_iconst (v := 0) hx hb dX5_sum_7 (by decide) ?_
  refine lv_istore hx hb dX5_sum_8 hl (Nat.le_of_ble_eq_true rfl) (lv' := [(4, .int 0), (3, .int x1), (2, .ref ra), (1, .int 0), (0, .ref ra)]) rfl (fun ls hl => ?_)
  obtain ⟨X1, h, hJ1⟩ := ob1_u h
  have J1 : ∀ (z8 : Int32), X1 = z8 → ∀ (H : Heap) (locs : List Loc) (ls : Array Slot), gJK g L0 A s.heap (G) sz H locs → lv_has ls 6 [(1, .int z8)] → W p l e R s m args below meth c H locs 0 0 Q (F0 m 33 ls []) := by
    intro z8 e0 H locs ls hG hl
    have h := hJ1 z8 e0
    refine lv_iload_n hx hb dX5_sum_33 rfl (lv_at hl 0 rfl) ?_
    have h := Option.some.inj h
    subst h
    exact g_iret hQ hG ⟨rfl, rfl, rfl⟩ (Nat.le_of_ble_eq_true rfl) (Nat.le_of_ble_eq_true rfl) dX5_sum_34
  have LL2 : ∀ (n : Nat) (y3 : Int32) (y4 : Int32), j_X5_sum_L2 cap f x1 n y3 y4 = some X1 → ∀ (H : Heap) (locs : List Loc) (ls : Array Slot), gJK g L0 A s.heap (G) sz H locs → lv_has ls 6 [(1, .int y3), (2, .ref ra), (3, .int x1), (4, .int y4)] → W p l e R s m args below meth c H locs 0 0 Q (F0 m 10 ls []) := by
    intro n
    induction n with
    | zero =>
      intro y3 y4 h
      rw [j_X5_sum_L2] at h
      cases h
    | succ n ihL2 =>
      intro y3 y4 h H locs ls hG hl
      rw [j_X5_sum_L2] at h
      refine lv_iload hx hb dX5_sum_10 (lv_at hl 3 rfl) ?_
      refine lv_iload_n hx hb dX5_sum_12 rfl (lv_at hl 2 rfl) ?_
      refine gb_icmp_ge hx hb dX5_sum_13 (tgt := 33) (by decide) h (fun h => ?_) (fun h => ?_)
      · exact J1 _ (Option.some.inj h).symm _ _ _ hG (lv_sub hl [0] rfl)
      · refine lv_aload_n hx hb dX5_sum_16 rfl (lv_at hl 1 rfl) ?_
        refine lv_iload hx hb dX5_sum_17 (lv_at hl 3 rfl) ?_
        refine c_iald hF hG f_ra h dX5_sum_19 (fun v5 h => ?_)
        refine lv_istore hx hb dX5_sum_20 hl (Nat.le_of_ble_eq_true rfl) (lv' := [(5, .int v5), (1, .int y3), (2, .ref ra), (3, .int x1), (4, .int y4)]) rfl (fun ls hl => ?_)
        refine lv_iload_n hx hb dX5_sum_22 rfl (lv_at hl 1 rfl) ?_
        refine lv_iload hx hb dX5_sum_23 (lv_at hl 0 rfl) ?_
        refine lv_iadd hx hb dX5_sum_25 ?_
        refine gb_nm h (fun x6 h => ?_)
        refine lv_istore_n hx hb dX5_sum_26 rfl hl (Nat.le_of_ble_eq_true rfl) (lv' := [(1, .int x6), (5, .int v5), (2, .ref ra), (3, .int x1), (4, .int y4)]) rfl (fun ls hl => ?_)
        refine gb_iinc (k' := 1) hx hb dX5_sum_27 hl (k := 4) rfl (by decide) (Nat.le_of_ble_eq_true rfl) h (fun x7 ls h hl => ?_)
        have hl : lv_has ls 6 [(4, .int x7), (1, .int x6), (5, .int v5), (2, .ref ra), (3, .int x1)] := hl
        refine lv_goto hx hb dX5_sum_30 (tgt := 10) (by decide) ?_
        exact ihL2 _ _ h _ _ _ hG (lv_sub hl [1, 3, 4, 0] rfl)
  exact LL2 _ _ _ h _ _ _ hG (lv_sub hl [3, 2, 1, 0] rfl)
/-! X12_tick -/
def j_X12_tick (a : Nat) (t : Int32) (d : Int32) : Option (Int32) :=
some t
set_option maxRecDepth 100000 in
theorem w_X12_tick {l : Launch} {g : gNum} {L0 sz : Nat} {G : GH} {a : Nat} {t : Int32} {d : Int32} (f_a : G a = some (.inr (10, [.int t, .int d]))) {out : Int32} (h : j_X12_tick a t d = some out) : gMet l yX12_tick (ws_ yX12_tick cX12_tick 1 (some .int)) g.1 clX L0 (gK g) [.ref a] G sz 0 0 0 0 (fun v G2 n2 => v = some (.int out) ∧ G2 = G ∧ n2 = sz) := by
  refine gMet.of (own := RX12) (gK_ok g) (by decide +kernel) (Nat.le_of_ble_eq_true rfl) rfl ?_
  intro p e R s m args below meth c A Q ls H hF hQ hin hG hl
  have hx := hF.1.1
  have hb := hF.1.2.1
  have hts := hF.1.2.2.2.2
  have hl : lv_has ls 1 [(0, .ref a)] := hl
  unfold j_X12_tick at h
  refine lv_aload_n hx hb dX12_tick_0 rfl (lv_at hl 0 rfl) ?_
  refine g_get hF hG f_a (C := RX12) (T := TX12) (N := 2) rfl in_X12 0 (by decide) q1399 (fun _ h => h) (v := .int t) rfl dX12_tick_1 ?_
  have h := Option.some.inj h
  subst h
  exact g_iret hQ hG ⟨rfl, rfl, rfl⟩ (Nat.le_of_ble_eq_true rfl) (Nat.le_of_ble_eq_true rfl) dX12_tick_4
/-! X12_duration -/
def j_X12_duration (a : Nat) (t : Int32) (d : Int32) : Option (Int32) :=
some d
set_option maxRecDepth 100000 in
theorem w_X12_duration {l : Launch} {g : gNum} {L0 sz : Nat} {G : GH} {a : Nat} {t : Int32} {d : Int32} (f_a : G a = some (.inr (10, [.int t, .int d]))) {out : Int32} (h : j_X12_duration a t d = some out) : gMet l yX12_duration (ws_ yX12_duration cX12_duration 1 (some .int)) g.1 clX L0 (gK g) [.ref a] G sz 0 0 0 0 (fun v G2 n2 => v = some (.int out) ∧ G2 = G ∧ n2 = sz) := by
  refine gMet.of (own := RX12) (gK_ok g) (by decide +kernel) (Nat.le_of_ble_eq_true rfl) rfl ?_
  intro p e R s m args below meth c A Q ls H hF hQ hin hG hl
  have hx := hF.1.1
  have hb := hF.1.2.1
  have hts := hF.1.2.2.2.2
  have hl : lv_has ls 1 [(0, .ref a)] := hl
  unfold j_X12_duration at h
  refine lv_aload_n hx hb dX12_duration_0 rfl (lv_at hl 0 rfl) ?_
  refine g_get hF hG f_a (C := RX12) (T := TX12) (N := 2) rfl in_X12 1 (by decide) q1400 (fun _ h => h) (v := .int d) rfl dX12_duration_1 ?_
  have h := Option.some.inj h
  subst h
  exact g_iret hQ hG ⟨rfl, rfl, rfl⟩ (Nat.le_of_ble_eq_true rfl) (Nat.le_of_ble_eq_true rfl) dX12_duration_4
/-! J18_sub -/
def j_J18_sub (i : Int32) (j : Int32) (md : Int32) : Option (Int32) :=
nm (i - j) fun (x1 : Int32) =>
if 0 ≤ (i - j) then (
some x1)
else (
nm (x1 + md) fun (x2 : Int32) =>
some x2)
set_option maxRecDepth 100000 in
theorem w_J18_sub {l : Launch} {g : gNum} {L0 sz : Nat} {G : GH} {i : Int32} {j : Int32} {md : Int32} {out : Int32} (h : j_J18_sub i j md = some out) : gMet l yJ18_sub (ws_ yJ18_sub cJ18_sub 3 (some .int)) g.1 clX L0 (gK g) [.int i, .int j, .int md] G sz 0 0 0 0 (fun v G2 n2 => v = some (.int out) ∧ G2 = G ∧ n2 = sz) := by
  refine gMet.of (own := RJ18) (gK_ok g) (by decide +kernel) (Nat.le_of_ble_eq_true rfl) rfl ?_
  intro p e R s m args below meth c A Q ls H hF hQ hin hG hl
  have hx := hF.1.1
  have hb := hF.1.2.1
  have hts := hF.1.2.2.2.2
  have hl : lv_has ls 3 [(0, .int i), (1, .int j), (2, .int md)] := hl
  unfold j_J18_sub at h
  refine lv_iload_n hx hb dJ18_sub_0 rfl (lv_at hl 0 rfl) ?_
  refine lv_iload_n hx hb dJ18_sub_1 rfl (lv_at hl 1 rfl) ?_
  refine lv_isub hx hb dJ18_sub_2 ?_
  refine lv_dup hx hb dJ18_sub_3 rfl ?_
  refine gb_nm h (fun x1 h => ?_)
  refine lv_istore_n hx hb dJ18_sub_4 rfl hl (Nat.le_of_ble_eq_true rfl) (lv' := [(0, .int x1), (1, .int j), (2, .int md)]) rfl (fun ls hl => ?_)
  refine gb_if_ge hx hb dJ18_sub_5 (tgt := 12) (by decide) h (fun h => ?_) (fun h => ?_)
  · refine lv_iload_n hx hb dJ18_sub_12 rfl (lv_at hl 0 rfl) ?_
    have h := Option.some.inj h
    subst h
    exact g_iret hQ hG ⟨rfl, rfl, rfl⟩ (Nat.le_of_ble_eq_true rfl) (Nat.le_of_ble_eq_true rfl) dJ18_sub_13
  · refine lv_iload_n hx hb dJ18_sub_8 rfl (lv_at hl 0 rfl) ?_
    refine lv_iload_n hx hb dJ18_sub_9 rfl (lv_at hl 2 rfl) ?_
    refine lv_iadd hx hb dJ18_sub_10 ?_
    refine gb_nm h (fun x2 h => ?_)
    refine lv_istore_n hx hb dJ18_sub_11 rfl hl (Nat.le_of_ble_eq_true rfl) (lv' := [(0, .int x2), (1, .int j), (2, .int md)]) rfl (fun ls hl => ?_)
    refine lv_iload_n hx hb dJ18_sub_12 rfl (lv_at hl 0 rfl) ?_
    have h := Option.some.inj h
    subst h
    exact g_iret hQ hG ⟨rfl, rfl, rfl⟩ (Nat.le_of_ble_eq_true rfl) (Nat.le_of_ble_eq_true rfl) dJ18_sub_13
/-! J18_inc -/
def j_J18_inc (i : Int32) (md : Int32) : Option (Int32) :=
nm (i + 1) fun (x1 : Int32) =>
if x1 < md then (
some x1)
else (
some 0)
set_option maxRecDepth 100000 in
theorem w_J18_inc {l : Launch} {g : gNum} {L0 sz : Nat} {G : GH} {i : Int32} {md : Int32} {out : Int32} (h : j_J18_inc i md = some out) : gMet l yJ18_inc (ws_ yJ18_inc cJ18_inc 2 (some .int)) g.1 clX L0 (gK g) [.int i, .int md] G sz 0 0 0 0 (fun v G2 n2 => v = some (.int out) ∧ G2 = G ∧ n2 = sz) := by
  refine gMet.of (own := RJ18) (gK_ok g) (by decide +kernel) (Nat.le_of_ble_eq_true rfl) rfl ?_
  intro p e R s m args below meth c A Q ls H hF hQ hin hG hl
  have hx := hF.1.1
  have hb := hF.1.2.1
  have hts := hF.1.2.2.2.2
  have hl : lv_has ls 2 [(0, .int i), (1, .int md)] := hl
  unfold j_J18_inc at h
  refine gb_iinc (k' := 1) hx hb dJ18_inc_0 hl (k := 0) rfl (by decide) (Nat.le_of_ble_eq_true rfl) h (fun x1 ls h hl => ?_)
  have hl : lv_has ls 2 [(0, .int x1), (1, .int md)] := hl
  refine lv_iload_n hx hb dJ18_inc_3 rfl (lv_at hl 0 rfl) ?_
  refine lv_iload_n hx hb dJ18_inc_4 rfl (lv_at hl 1 rfl) ?_
  refine gb_icmp_lt hx hb dJ18_inc_5 (tgt := 10) (by decide) h (fun h => ?_) (fun h => ?_)
  · refine lv_iload_n hx hb dJ18_inc_10 rfl (lv_at hl 0 rfl) ?_
    have h := Option.some.inj h
    subst h
    exact g_iret hQ hG ⟨rfl, rfl, rfl⟩ (Nat.le_of_ble_eq_true rfl) (Nat.le_of_ble_eq_true rfl) dJ18_inc_11
  · refine lv_iconst (v := 0) hx hb dJ18_inc_8 (by decide) ?_
    refine lv_istore_n hx hb dJ18_inc_9 rfl hl (Nat.le_of_ble_eq_true rfl) (lv' := [(0, .int 0), (1, .int md)]) rfl (fun ls hl => ?_)
    refine lv_iload_n hx hb dJ18_inc_10 rfl (lv_at hl 0 rfl) ?_
    have h := Option.some.inj h
    subst h
    exact g_iret hQ hG ⟨rfl, rfl, rfl⟩ (Nat.le_of_ble_eq_true rfl) (Nat.le_of_ble_eq_true rfl) dJ18_inc_11
/-! J18_dec -/
def j_J18_dec (i : Int32) (md : Int32) : Option (Int32) :=
nm (i + (-1)) fun (x1 : Int32) =>
if 0 ≤ x1 then (
some x1)
else (
nm (md - 1) fun (x2 : Int32) =>
some x2)
set_option maxRecDepth 100000 in
theorem w_J18_dec {l : Launch} {g : gNum} {L0 sz : Nat} {G : GH} {i : Int32} {md : Int32} {out : Int32} (h : j_J18_dec i md = some out) : gMet l yJ18_dec (ws_ yJ18_dec cJ18_dec 2 (some .int)) g.1 clX L0 (gK g) [.int i, .int md] G sz 0 0 0 0 (fun v G2 n2 => v = some (.int out) ∧ G2 = G ∧ n2 = sz) := by
  refine gMet.of (own := RJ18) (gK_ok g) (by decide +kernel) (Nat.le_of_ble_eq_true rfl) rfl ?_
  intro p e R s m args below meth c A Q ls H hF hQ hin hG hl
  have hx := hF.1.1
  have hb := hF.1.2.1
  have hts := hF.1.2.2.2.2
  have hl : lv_has ls 2 [(0, .int i), (1, .int md)] := hl
  unfold j_J18_dec at h
  refine gb_iinc (k' := (-1)) hx hb dJ18_dec_0 hl (k := 0) rfl (by decide) (Nat.le_of_ble_eq_true rfl) h (fun x1 ls h hl => ?_)
  have hl : lv_has ls 2 [(0, .int x1), (1, .int md)] := hl
  refine lv_iload_n hx hb dJ18_dec_3 rfl (lv_at hl 0 rfl) ?_
  refine gb_if_ge hx hb dJ18_dec_4 (tgt := 11) (by decide) h (fun h => ?_) (fun h => ?_)
  · refine lv_iload_n hx hb dJ18_dec_11 rfl (lv_at hl 0 rfl) ?_
    have h := Option.some.inj h
    subst h
    exact g_iret hQ hG ⟨rfl, rfl, rfl⟩ (Nat.le_of_ble_eq_true rfl) (Nat.le_of_ble_eq_true rfl) dJ18_dec_12
  · refine lv_iload_n hx hb dJ18_dec_7 rfl (lv_at hl 1 rfl) ?_
    refine lv_iconst (v := 1) hx hb dJ18_dec_8 (by decide) ?_
    refine lv_isub hx hb dJ18_dec_9 ?_
    refine gb_nm h (fun x2 h => ?_)
    refine lv_istore_n hx hb dJ18_dec_10 rfl hl (Nat.le_of_ble_eq_true rfl) (lv' := [(0, .int x2), (1, .int md)]) rfl (fun ls hl => ?_)
    refine lv_iload_n hx hb dJ18_dec_11 rfl (lv_at hl 0 rfl) ?_
    have h := Option.some.inj h
    subst h
    exact g_iret hQ hG ⟨rfl, rfl, rfl⟩ (Nat.le_of_ble_eq_true rfl) (Nat.le_of_ble_eq_true rfl) dJ18_dec_12
/-! J18_size -/
def j_J18_size (a : Nat) (ar : Nat) (hd : Int32) (tl : Int32) (cap : Nat) (f : Nat → Option Nat) : Option (Int32) :=
ob1 (j_J18_sub tl hd (Int32.ofNat cap)) fun (v1 : Int32) =>
some v1
set_option maxRecDepth 100000 in
theorem w_J18_size {l : Launch} {g : gNum} {L0 sz : Nat} {G : GH} {a : Nat} {ar : Nat} {hd : Int32} {tl : Int32} {cap : Nat} {f : Nat → Option Nat} (f_a : G a = some (.inr (13, [.ref ar, .int hd, .int tl]))) (f_ar : G ar = some (.inl (g.2.1 4, cap, .inr (.inr (.inr (.inr f)))))) {out : Int32} (h : j_J18_size a ar hd tl cap f = some out) : gMet l yJ18_size (ws_ yJ18_size cJ18_size 1 (some .int)) g.1 clX L0 (gK g) [.ref a] G sz 1 22 0 0 (fun v G2 n2 => v = some (.int out) ∧ G2 = G ∧ n2 = sz) := by
  refine gMet.of (own := RJ18) (gK_ok g) (by decide +kernel) (Nat.le_of_ble_eq_true rfl) rfl ?_
  intro p e R s m args below meth c A Q ls H hF hQ hin hG hl
  have hx := hF.1.1
  have hb := hF.1.2.1
  have hts := hF.1.2.2.2.2
  have hl : lv_has ls 1 [(0, .ref a)] := hl
  unfold j_J18_size at h
  refine lv_aload_n hx hb dJ18_size_0 rfl (lv_at hl 0 rfl) ?_
  refine g_get hF hG f_a (C := RJ18) (T := TJ18) (N := 3) rfl in_J18 2 (by decide) q739 (fun _ h => h) (v := .int tl) rfl dJ18_size_1 ?_
  refine lv_aload_n hx hb dJ18_size_4 rfl (lv_at hl 0 rfl) ?_
  refine g_get hF hG f_a (C := RJ18) (T := TJ18) (N := 3) rfl in_J18 1 (by decide) q738 (fun _ h => h) (v := .int hd) rfl dJ18_size_5 ?_
  refine lv_aload_n hx hb dJ18_size_8 rfl (lv_at hl 0 rfl) ?_
  refine g_get hF hG f_a (C := RJ18) (T := TJ18) (N := 3) rfl in_J18 0 (by decide) q737 (fun _ h => h) (v := .ref ar) rfl dJ18_size_9 ?_
  refine g_alen hF hG f_ar 4 rfl rfl dJ18_size_12 ?_
  obtain ⟨v1, hr, h⟩ := ob1_e h
  refine g_callS hF hG hl (w_J18_sub (g := g) (l := l) (L0 := L0) (G := (G)) (sz := sz) (i := tl) (j := hd) (md := (Int32.ofNat cap))     hr) (va_cwS 3 hF.1.2.2.2.2 (lw_S q849 q850 q107 q851) rfl rfl rfl (by decide +kernel) (g_room hF (Nat.le_of_ble_eq_true rfl) (Nat.le_of_ble_eq_true rfl))) rfl rfl (Nat.le_of_ble_eq_true rfl) dJ18_size_13 ⟨by rw [hF.2.2.2.2]; exact Nat.le_of_ble_eq_true rfl, by rw [hF.2.2.2.2]; exact Nat.le_of_ble_eq_true rfl⟩ (fun v0 G1 n1 H locs hR hG => ?_)
  obtain ⟨hv0, hg1, hn1⟩ := hR
  subst hv0
  rw [hg1, hn1] at hG
  have hG : gJK g L0 A s.heap (G) sz H locs := hG
  have h := Option.some.inj h
  subst h
  exact g_iret hQ hG ⟨rfl, rfl, rfl⟩ (Nat.le_of_ble_eq_true rfl) (Nat.le_of_ble_eq_true rfl) dJ18_size_16
/-! J18_isEmpty -/
def j_J18_isEmpty (a : Nat) (ar : Nat) (hd : Int32) (tl : Int32) (cap : Nat) (f : Nat → Option Nat) : Option (Int32) :=
if hd = tl then (
some 1)
else (
some 0)
set_option maxRecDepth 100000 in
theorem w_J18_isEmpty {l : Launch} {g : gNum} {L0 sz : Nat} {G : GH} {a : Nat} {ar : Nat} {hd : Int32} {tl : Int32} {cap : Nat} {f : Nat → Option Nat} (f_a : G a = some (.inr (13, [.ref ar, .int hd, .int tl]))) (f_ar : G ar = some (.inl (g.2.1 4, cap, .inr (.inr (.inr (.inr f)))))) {out : Int32} (h : j_J18_isEmpty a ar hd tl cap f = some out) : gMet l yJ18_isEmpty (ws_ yJ18_isEmpty cJ18_isEmpty 1 (some .boolean)) g.1 clX L0 (gK g) [.ref a] G sz 0 0 0 0 (fun v G2 n2 => v = some (.int out) ∧ G2 = G ∧ n2 = sz) := by
  refine gMet.of (own := RJ18) (gK_ok g) (by decide +kernel) (Nat.le_of_ble_eq_true rfl) rfl ?_
  intro p e R s m args below meth c A Q ls H hF hQ hin hG hl
  have hx := hF.1.1
  have hb := hF.1.2.1
  have hts := hF.1.2.2.2.2
  have hl : lv_has ls 1 [(0, .ref a)] := hl
  unfold j_J18_isEmpty at h
  refine lv_aload_n hx hb dJ18_isEmpty_0 rfl (lv_at hl 0 rfl) ?_
  refine g_get hF hG f_a (C := RJ18) (T := TJ18) (N := 3) rfl in_J18 1 (by decide) q738 (fun _ h => h) (v := .int hd) rfl dJ18_isEmpty_1 ?_
  refine lv_aload_n hx hb dJ18_isEmpty_4 rfl (lv_at hl 0 rfl) ?_
  refine g_get hF hG f_a (C := RJ18) (T := TJ18) (N := 3) rfl in_J18 2 (by decide) q739 (fun _ h => h) (v := .int tl) rfl dJ18_isEmpty_5 ?_
  refine gb_icmp_ne hx hb dJ18_isEmpty_8 (tgt := 15) (by decide) h (fun h => ?_) (fun h => ?_)
  · refine lv_iconst (v := 0) hx hb dJ18_isEmpty_15 (by decide) ?_
    have h := Option.some.inj h
    subst h
    exact g_nret hQ hG (by decide) ⟨rfl, rfl, rfl⟩ (Nat.le_of_ble_eq_true rfl) (Nat.le_of_ble_eq_true rfl) dJ18_isEmpty_16
  · refine lv_iconst (v := 1) hx hb dJ18_isEmpty_11 (by decide) ?_
    refine lv_goto hx hb dJ18_isEmpty_12 (tgt := 16) (by decide) ?_
    have h := Option.some.inj h
    subst h
    exact g_nret hQ hG (by decide) ⟨rfl, rfl, rfl⟩ (Nat.le_of_ble_eq_true rfl) (Nat.le_of_ble_eq_true rfl) dJ18_isEmpty_16
/-! J18_elementAt -/
def j_J18_elementAt (ar : Nat) (i : Int32) (cap : Nat) (f : Nat → Option Nat) : Option (Option Nat) :=
ob1 (rdF cap f i) fun (q1 : Option Nat) =>
some q1
set_option maxRecDepth 100000 in
theorem w_J18_elementAt {l : Launch} {g : gNum} {L0 sz : Nat} {G : GH} {ar : Nat} {i : Int32} {cap : Nat} {f : Nat → Option Nat} (f_ar : G ar = some (.inl (g.2.1 4, cap, .inr (.inr (.inr (.inr f)))))) {out : Option Nat} (h : j_J18_elementAt ar i cap f = some out) : gMet l yJ18_elementAt (ws_ yJ18_elementAt cJ18_elementAt 2 (some (.object "java/lang/Object"))) g.1 clX L0 (gK g) [.ref ar, .int i] G sz 0 0 0 0 (fun v G2 n2 => v = some (va_rf out) ∧ G2 = G ∧ n2 = sz) := by
  refine gMet.of (own := RJ18) (gK_ok g) (by decide +kernel) (Nat.le_of_ble_eq_true rfl) rfl ?_
  intro p e R s m args below meth c A Q ls H hF hQ hin hG hl
  have hx := hF.1.1
  have hb := hF.1.2.1
  have hts := hF.1.2.2.2.2
  have hl : lv_has ls 2 [(0, .ref ar), (1, .int i)] := hl
  unfold j_J18_elementAt at h
  refine lv_aload_n hx hb dJ18_elementAt_0 rfl (lv_at hl 0 rfl) ?_
  refine lv_iload_n hx hb dJ18_elementAt_1 rfl (lv_at hl 1 rfl) ?_
  refine c_aald hF hG f_ar 4 rfl h dJ18_elementAt_2 (fun q1 h => ?_)
  have h := Option.some.inj h
  subst h
  exact g_aret hQ (by first | exact Or.inl ⟨_, rfl⟩ | exact Or.inr ⟨_, rfl⟩) hG (va_rf_or _) ⟨rfl, rfl, rfl⟩ (Nat.le_of_ble_eq_true rfl) (Nat.le_of_ble_eq_true rfl) dJ18_elementAt_3
/-! J18_pollFirst -/
def j_J18_pollFirst (a : Nat) (ar : Nat) (hd : Int32) (tl : Int32) (cap : Nat) (f : Nat → Option Nat) : Option (Option Nat × Int32 × (Nat → Option Nat)) :=
ob1 (j_J18_elementAt ar hd cap f) fun (q1 : Option Nat) =>
oq q1 (
some (none, hd, f)) fun (a2 : Nat) =>
ob1 (wrF cap f hd none) fun (f3 : Nat → Option Nat) =>
ob1 (j_J18_inc hd (Int32.ofNat cap)) fun (v4 : Int32) =>
some ((some a2), v4, f3)
set_option maxRecDepth 100000 in
theorem w_J18_pollFirst {l : Launch} {g : gNum} {L0 sz : Nat} {G : GH} {a : Nat} {ar : Nat} {hd : Int32} {tl : Int32} {cap : Nat} {f : Nat → Option Nat} (f_a : G a = some (.inr (13, [.ref ar, .int hd, .int tl]))) (f_ar : G ar = some (.inl (g.2.1 4, cap, .inr (.inr (.inr (.inr f)))))) (l_a : L0 ≤ a) (l_ar : L0 ≤ ar) {out : Option Nat × Int32 × (Nat → Option Nat)} (h : j_J18_pollFirst a ar hd tl cap f = some out) : gMet l yJ18_pollFirst (ws_ yJ18_pollFirst cJ18_pollFirst 4 (some (.object "java/lang/Object"))) g.1 clX L0 (gK g) [.ref a] G sz 1 21 0 0 (fun v G2 n2 => v = some (va_rf out.1) ∧ G2 = gU (gU G a (.inr (13, [.ref ar, .int out.2.1, .int tl]))) ar (.inl (g.2.1 4, cap, .inr (.inr (.inr (.inr out.2.2))))) ∧ n2 = sz) := by
  refine gMet.of (own := RJ18) (gK_ok g) (by decide +kernel) (Nat.le_of_ble_eq_true rfl) rfl ?_
  intro p e R s m args below meth c A Q ls H hF hQ hin hG hl
  have hx := hF.1.1
  have hb := hF.1.2.1
  have hts := hF.1.2.2.2.2
  have hl : lv_has ls 4 [(0, .ref a)] := hl
  have n_a_ar : a ≠ ar := fun q => by rw [q, f_ar] at f_a; simp at f_a
  have n_ar_a : ar ≠ a := Ne.symm n_a_ar
  have hG : gJK g L0 A s.heap (gU (gU G a (.inr (13, [.ref ar, .int hd, .int tl]))) ar (.inl (g.2.1 4, cap, .inr (.inr (.inr (.inr f)))))) sz H [] := by
    rw [gU_id f_a, gU_id f_ar]
    exact hG
  unfold j_J18_pollFirst at h
  refine lv_aload_n hx hb dJ18_pollFirst_0 rfl (lv_at hl 0 rfl) ?_
  refine g_get hF hG ((gU_n n_a_ar).trans gU_s) (C := RJ18) (T := TJ18) (N := 3) rfl in_J18 0 (by decide) q737 (fun _ h => h) (v := .ref ar) rfl dJ18_pollFirst_1 ?_
  refine lv_dup hx hb dJ18_pollFirst_4 rfl ?_
  refine lv_astore_n hx hb dJ18_pollFirst_5 rfl hl (Nat.le_of_ble_eq_true rfl) (lv' := [(1, .ref ar), (0, .ref a)]) rfl (fun ls hl => ?_)
  refine lv_aload_n hx hb dJ18_pollFirst_6 rfl (lv_at hl 1 rfl) ?_
  refine g_get hF hG ((gU_n n_a_ar).trans gU_s) (C := RJ18) (T := TJ18) (N := 3) rfl in_J18 1 (by decide) q738 (fun _ h => h) (v := .int hd) rfl dJ18_pollFirst_7 ?_
  refine lv_dup hx hb dJ18_pollFirst_10 rfl ?_
  refine lv_istore_n hx hb dJ18_pollFirst_11 rfl hl (Nat.le_of_ble_eq_true rfl) (lv' := [(2, .int hd), (1, .ref ar), (0, .ref a)]) rfl (fun ls hl => ?_)
  obtain ⟨q1, hr, h⟩ := ob1_e h
  refine g_callS hF hG hl (w_J18_elementAt (g := g) (l := l) (L0 := L0) (G := (gU (gU G a (.inr (13, [.ref ar, .int hd, .int tl]))) ar (.inl (g.2.1 4, cap, .inr (.inr (.inr (.inr f))))))) (sz := sz) (ar := ar) (i := hd) (cap := cap) (f := f) (f_ar := gU_s)    hr) (va_cwS 2 hF.1.2.2.2.2 (lw_S q860 q861 q107 q862) rfl rfl rfl (by decide +kernel) (g_room hF (Nat.le_of_ble_eq_true rfl) (Nat.le_of_ble_eq_true rfl))) rfl rfl (Nat.le_of_ble_eq_true rfl) dJ18_pollFirst_12 ⟨by rw [hF.2.2.2.2]; exact Nat.le_of_ble_eq_true rfl, by rw [hF.2.2.2.2]; exact Nat.le_of_ble_eq_true rfl⟩ (fun v0 G1 n1 H locs hR hG => ?_)
  obtain ⟨hv0, hg1, hn1⟩ := hR
  subst hv0
  rw [hg1, hn1] at hG
  have hG : gJK g L0 A s.heap (gU (gU G a (.inr (13, [.ref ar, .int hd, .int tl]))) ar (.inl (g.2.1 4, cap, .inr (.inr (.inr (.inr f)))))) sz H locs := hG
  refine lv_astore_nQ hx hb dJ18_pollFirst_15 rfl hl (Nat.le_of_ble_eq_true rfl) (lv' := [(3, va_rf q1), (2, .int hd), (1, .ref ar), (0, .ref a)]) rfl (fun ls hl => ?_)
  refine lv_aload_nQ hx hb dJ18_pollFirst_16 rfl (lv_at hl 0 rfl) ?_
  refine gb_ifnull hx hb dJ18_pollFirst_17 (tgt := 34) (by decide) h (fun e0 h => ?_) (fun a2 e0 h => ?_)
  · subst e0
    have hl : lv_has ls 4 [(3, Value.null), (2, .int hd), (1, .ref ar), (0, .ref a)] := hl
    refine lv_aload_nN hx hb dJ18_pollFirst_34 rfl (lv_at hl 0 rfl) ?_
    have h := Option.some.inj h
    subst h
    exact g_aret hQ (by first | exact Or.inl ⟨_, rfl⟩ | exact Or.inr ⟨_, rfl⟩) hG (Or.inl rfl) ⟨rfl, rfl, rfl⟩ (Nat.le_of_ble_eq_true rfl) (Nat.le_of_ble_eq_true rfl) dJ18_pollFirst_35
  · subst e0
    have hl : lv_has ls 4 [(3, .ref a2), (2, .int hd), (1, .ref ar), (0, .ref a)] := hl
    refine lv_aload_n hx hb dJ18_pollFirst_20 rfl (lv_at hl 2 rfl) ?_
    refine lv_iload_n hx hb dJ18_pollFirst_21 rfl (lv_at hl 1 rfl) ?_
    refine lv_null hx hb dJ18_pollFirst_22 ?_
    refine c_aastN hF hG gU_s l_ar 4 rfl h dJ18_pollFirst_23 (fun f3 H locs h hG => ?_)
    rw [gU_ov] at hG
    have hG : gJK g L0 A s.heap (gU (gU G a (.inr (13, [.ref ar, .int hd, .int tl]))) ar (.inl (g.2.1 4, cap, .inr (.inr (.inr (.inr f3)))))) sz H locs := hG
    refine lv_aload_n hx hb dJ18_pollFirst_24 rfl (lv_at hl 3 rfl) ?_
    refine lv_iload_n hx hb dJ18_pollFirst_25 rfl (lv_at hl 1 rfl) ?_
    refine lv_aload_n hx hb dJ18_pollFirst_26 rfl (lv_at hl 2 rfl) ?_
    refine g_alen hF hG gU_s 4 rfl rfl dJ18_pollFirst_27 ?_
    obtain ⟨v4, hr, h⟩ := ob1_e h
    refine g_callS hF hG hl (w_J18_inc (g := g) (l := l) (L0 := L0) (G := (gU (gU G a (.inr (13, [.ref ar, .int hd, .int tl]))) ar (.inl (g.2.1 4, cap, .inr (.inr (.inr (.inr f3))))))) (sz := sz) (i := hd) (md := (Int32.ofNat cap))     hr) (va_cwS 2 hF.1.2.2.2.2 (lw_S q863 q864 q107 q865) rfl rfl rfl (by decide +kernel) (g_room hF (Nat.le_of_ble_eq_true rfl) (Nat.le_of_ble_eq_true rfl))) rfl rfl (Nat.le_of_ble_eq_true rfl) dJ18_pollFirst_28 ⟨by rw [hF.2.2.2.2]; exact Nat.le_of_ble_eq_true rfl, by rw [hF.2.2.2.2]; exact Nat.le_of_ble_eq_true rfl⟩ (fun v0 G1 n1 H locs hR hG => ?_)
    obtain ⟨hv0, hg1, hn1⟩ := hR
    subst hv0
    rw [hg1, hn1] at hG
    have hG : gJK g L0 A s.heap (gU (gU G a (.inr (13, [.ref ar, .int hd, .int tl]))) ar (.inl (g.2.1 4, cap, .inr (.inr (.inr (.inr f3)))))) sz H locs := hG
    refine g_put hF hG ((gU_n n_a_ar).trans gU_s) l_a (C := RJ18) (T := TJ18) (N := 3) rfl in_J18 tyJ18 tyJ18_ok nmJ18 1 (by decide) q738 (fun _ h => h) rfl (by first | rfl | decide) rfl (Nat.le_of_ble_eq_true rfl) dJ18_pollFirst_31 (fun H locs hG => ?_)
    rw [gU_sw n_a_ar, gU_ov] at hG
    have hG : gJK g L0 A s.heap (gU (gU G a (.inr (13, [.ref ar, .int v4, .int tl]))) ar (.inl (g.2.1 4, cap, .inr (.inr (.inr (.inr f3)))))) sz H locs := hG
    refine lv_aload_n hx hb dJ18_pollFirst_34 rfl (lv_at hl 0 rfl) ?_
    have h := Option.some.inj h
    subst h
    exact g_aret hQ (by first | exact Or.inl ⟨_, rfl⟩ | exact Or.inr ⟨_, rfl⟩) hG (Or.inr ⟨_, rfl⟩) ⟨rfl, rfl, rfl⟩ (Nat.le_of_ble_eq_true rfl) (Nat.le_of_ble_eq_true rfl) dJ18_pollFirst_35
/-! J18_removeFirst -/
def j_J18_removeFirst (a : Nat) (ar : Nat) (hd : Int32) (tl : Int32) (cap : Nat) (f : Nat → Option Nat) : Option (Option Nat × Int32 × (Nat → Option Nat)) :=
ob3 (j_J18_pollFirst a ar hd tl cap f) fun (q1 : Option Nat) (w2 : Int32) (w3 : Nat → Option Nat) =>
oq q1 (
none) fun (a4 : Nat) =>
some ((some a4), w2, w3)
set_option maxRecDepth 100000 in
theorem w_J18_removeFirst {l : Launch} {g : gNum} {L0 sz : Nat} {G : GH} {a : Nat} {ar : Nat} {hd : Int32} {tl : Int32} {cap : Nat} {f : Nat → Option Nat} (f_a : G a = some (.inr (13, [.ref ar, .int hd, .int tl]))) (f_ar : G ar = some (.inl (g.2.1 4, cap, .inr (.inr (.inr (.inr f)))))) (l_a : L0 ≤ a) (l_ar : L0 ≤ ar) {out : Option Nat × Int32 × (Nat → Option Nat)} (h : j_J18_removeFirst a ar hd tl cap f = some out) : gMet l yJ18_removeFirst (ws_ yJ18_removeFirst cJ18_removeFirst 2 (some (.object "java/lang/Object"))) g.1 clX L0 (gK g) [.ref a] G sz 2 44 0 0 (fun v G2 n2 => v = some (va_rf out.1) ∧ G2 = gU (gU G a (.inr (13, [.ref ar, .int out.2.1, .int tl]))) ar (.inl (g.2.1 4, cap, .inr (.inr (.inr (.inr out.2.2))))) ∧ n2 = sz) := by
  refine gMet.of (own := RJ18) (gK_ok g) (by decide +kernel) (Nat.le_of_ble_eq_true rfl) rfl ?_
  intro p e R s m args below meth c A Q ls H hF hQ hin hG hl
  have hx := hF.1.1
  have hb := hF.1.2.1
  have hts := hF.1.2.2.2.2
  have hl : lv_has ls 2 [(0, .ref a)] := hl
  have n_a_ar : a ≠ ar := fun q => by rw [q, f_ar] at f_a; simp at f_a
  have n_ar_a : ar ≠ a := Ne.symm n_a_ar
  have hG : gJK g L0 A s.heap (gU (gU G a (.inr (13, [.ref ar, .int hd, .int tl]))) ar (.inl (g.2.1 4, cap, .inr (.inr (.inr (.inr f)))))) sz H [] := by
    rw [gU_id f_a, gU_id f_ar]
    exact hG
  unfold j_J18_removeFirst at h
  refine lv_aload_n hx hb dJ18_removeFirst_0 rfl (lv_at hl 0 rfl) ?_
  obtain ⟨q1, w2, w3, hr, h⟩ := ob3_e h
  refine g_callV hF hG hl ((gU_n n_a_ar).trans gU_s) (C := RJ18) (T := TJ18) (N := 3) rfl (w_J18_pollFirst (g := g) (l := l) (L0 := L0) (G := (gU (gU G a (.inr (13, [.ref ar, .int hd, .int tl]))) ar (.inl (g.2.1 4, cap, .inr (.inr (.inr (.inr f))))))) (sz := sz) (a := a) (ar := ar) (hd := hd) (tl := tl) (cap := cap) (f := f) (f_a := ((gU_n n_a_ar).trans gU_s)) (f_ar := gU_s) (l_a := l_a) (l_ar := l_ar)   hr) (cwV 0 hF.1.2.2.2.2 (lw_V q856 q857 q858 q107 q859) rfl rfl rfl (by decide +kernel) (g_room hF (Nat.le_of_ble_eq_true rfl) (Nat.le_of_ble_eq_true rfl))) rfl rfl (Nat.le_of_ble_eq_true rfl) dJ18_removeFirst_1 ⟨by rw [hF.2.2.2.2]; exact Nat.le_of_ble_eq_true rfl, by rw [hF.2.2.2.2]; exact Nat.le_of_ble_eq_true rfl⟩ (fun v0 G1 n1 H locs hR hG => ?_)
  obtain ⟨hv0, hg1, hn1⟩ := hR
  subst hv0
  rw [hg1, hn1] at hG
  rw [gU_sw (a := a) (b := ar) n_a_ar, gU_ov (a := a), gU_ov (a := ar)] at hG
  have hG : gJK g L0 A s.heap (gU (gU G a (.inr (13, [.ref ar, .int w2, .int tl]))) ar (.inl (g.2.1 4, cap, .inr (.inr (.inr (.inr w3)))))) sz H locs := hG
  refine lv_astore_nQ hx hb dJ18_removeFirst_4 rfl hl (Nat.le_of_ble_eq_true rfl) (lv' := [(1, va_rf q1), (0, .ref a)]) rfl (fun ls hl => ?_)
  refine lv_aload_nQ hx hb dJ18_removeFirst_5 rfl (lv_at hl 0 rfl) ?_
  refine gb_ifnonnull hx hb dJ18_removeFirst_6 (tgt := 17) (by decide) h (fun a4 e0 h => ?_) (fun e0 h => ?_)
  · subst e0
    have hl : lv_has ls 2 [(1, .ref a4), (0, .ref a)] := hl
    refine lv_aload_n hx hb dJ18_removeFirst_17 rfl (lv_at hl 0 rfl) ?_
    have h := Option.some.inj h
    subst h
    exact g_aret hQ (by first | exact Or.inl ⟨_, rfl⟩ | exact Or.inr ⟨_, rfl⟩) hG (Or.inr ⟨_, rfl⟩) ⟨rfl, rfl, rfl⟩ (Nat.le_of_ble_eq_true rfl) (Nat.le_of_ble_eq_true rfl) dJ18_removeFirst_18
  · subst e0
    have hl : lv_has ls 2 [(1, Value.null), (0, .ref a)] := hl
    cases h
/-! J18_pollLast -/
def j_J18_pollLast (a : Nat) (ar : Nat) (hd : Int32) (tl : Int32) (cap : Nat) (f : Nat → Option Nat) : Option (Option Nat × Int32 × (Nat → Option Nat)) :=
ob1 (j_J18_dec tl (Int32.ofNat cap)) fun (v1 : Int32) =>
ob1 (j_J18_elementAt ar v1 cap f) fun (q2 : Option Nat) =>
oq q2 (
some (none, tl, f)) fun (a3 : Nat) =>
ob1 (wrF cap f v1 none) fun (f4 : Nat → Option Nat) =>
some ((some a3), v1, f4)
set_option maxRecDepth 100000 in
theorem w_J18_pollLast {l : Launch} {g : gNum} {L0 sz : Nat} {G : GH} {a : Nat} {ar : Nat} {hd : Int32} {tl : Int32} {cap : Nat} {f : Nat → Option Nat} (f_a : G a = some (.inr (13, [.ref ar, .int hd, .int tl]))) (f_ar : G ar = some (.inl (g.2.1 4, cap, .inr (.inr (.inr (.inr f)))))) (l_a : L0 ≤ a) (l_ar : L0 ≤ ar) {out : Option Nat × Int32 × (Nat → Option Nat)} (h : j_J18_pollLast a ar hd tl cap f = some out) : gMet l yJ18_pollLast (ws_ yJ18_pollLast cJ18_pollLast 4 (some (.object "java/lang/Object"))) g.1 clX L0 (gK g) [.ref a] G sz 1 21 0 0 (fun v G2 n2 => v = some (va_rf out.1) ∧ G2 = gU (gU G a (.inr (13, [.ref ar, .int hd, .int out.2.1]))) ar (.inl (g.2.1 4, cap, .inr (.inr (.inr (.inr out.2.2))))) ∧ n2 = sz) := by
  refine gMet.of (own := RJ18) (gK_ok g) (by decide +kernel) (Nat.le_of_ble_eq_true rfl) rfl ?_
  intro p e R s m args below meth c A Q ls H hF hQ hin hG hl
  have hx := hF.1.1
  have hb := hF.1.2.1
  have hts := hF.1.2.2.2.2
  have hl : lv_has ls 4 [(0, .ref a)] := hl
  have n_a_ar : a ≠ ar := fun q => by rw [q, f_ar] at f_a; simp at f_a
  have n_ar_a : ar ≠ a := Ne.symm n_a_ar
  have hG : gJK g L0 A s.heap (gU (gU G a (.inr (13, [.ref ar, .int hd, .int tl]))) ar (.inl (g.2.1 4, cap, .inr (.inr (.inr (.inr f)))))) sz H [] := by
    rw [gU_id f_a, gU_id f_ar]
    exact hG
  unfold j_J18_pollLast at h
  refine lv_aload_n hx hb dJ18_pollLast_0 rfl (lv_at hl 0 rfl) ?_
  refine g_get hF hG ((gU_n n_a_ar).trans gU_s) (C := RJ18) (T := TJ18) (N := 3) rfl in_J18 0 (by decide) q737 (fun _ h => h) (v := .ref ar) rfl dJ18_pollLast_1 ?_
  refine lv_dup hx hb dJ18_pollLast_4 rfl ?_
  refine lv_astore_n hx hb dJ18_pollLast_5 rfl hl (Nat.le_of_ble_eq_true rfl) (lv' := [(1, .ref ar), (0, .ref a)]) rfl (fun ls hl => ?_)
  refine lv_aload_n hx hb dJ18_pollLast_6 rfl (lv_at hl 1 rfl) ?_
  refine g_get hF hG ((gU_n n_a_ar).trans gU_s) (C := RJ18) (T := TJ18) (N := 3) rfl in_J18 2 (by decide) q739 (fun _ h => h) (v := .int tl) rfl dJ18_pollLast_7 ?_
  refine lv_aload_n hx hb dJ18_pollLast_10 rfl (lv_at hl 0 rfl) ?_
  refine g_alen hF hG gU_s 4 rfl rfl dJ18_pollLast_11 ?_
  obtain ⟨v1, hr, h⟩ := ob1_e h
  refine g_callS hF hG hl (w_J18_dec (g := g) (l := l) (L0 := L0) (G := (gU (gU G a (.inr (13, [.ref ar, .int hd, .int tl]))) ar (.inl (g.2.1 4, cap, .inr (.inr (.inr (.inr f))))))) (sz := sz) (i := tl) (md := (Int32.ofNat cap))     hr) (va_cwS 2 hF.1.2.2.2.2 (lw_S q1796 q1797 q107 q1798) rfl rfl rfl (by decide +kernel) (g_room hF (Nat.le_of_ble_eq_true rfl) (Nat.le_of_ble_eq_true rfl))) rfl rfl (Nat.le_of_ble_eq_true rfl) dJ18_pollLast_12 ⟨by rw [hF.2.2.2.2]; exact Nat.le_of_ble_eq_true rfl, by rw [hF.2.2.2.2]; exact Nat.le_of_ble_eq_true rfl⟩ (fun v0 G1 n1 H locs hR hG => ?_)
  obtain ⟨hv0, hg1, hn1⟩ := hR
  subst hv0
  rw [hg1, hn1] at hG
  have hG : gJK g L0 A s.heap (gU (gU G a (.inr (13, [.ref ar, .int hd, .int tl]))) ar (.inl (g.2.1 4, cap, .inr (.inr (.inr (.inr f)))))) sz H locs := hG
  refine lv_dup hx hb dJ18_pollLast_15 rfl ?_
  refine lv_istore_n hx hb dJ18_pollLast_16 rfl hl (Nat.le_of_ble_eq_true rfl) (lv' := [(2, .int v1), (1, .ref ar), (0, .ref a)]) rfl (fun ls hl => ?_)
  obtain ⟨q2, hr, h⟩ := ob1_e h
  refine g_callS hF hG hl (w_J18_elementAt (g := g) (l := l) (L0 := L0) (G := (gU (gU G a (.inr (13, [.ref ar, .int hd, .int tl]))) ar (.inl (g.2.1 4, cap, .inr (.inr (.inr (.inr f))))))) (sz := sz) (ar := ar) (i := v1) (cap := cap) (f := f) (f_ar := gU_s)    hr) (va_cwS 2 hF.1.2.2.2.2 (lw_S q860 q861 q107 q862) rfl rfl rfl (by decide +kernel) (g_room hF (Nat.le_of_ble_eq_true rfl) (Nat.le_of_ble_eq_true rfl))) rfl rfl (Nat.le_of_ble_eq_true rfl) dJ18_pollLast_17 ⟨by rw [hF.2.2.2.2]; exact Nat.le_of_ble_eq_true rfl, by rw [hF.2.2.2.2]; exact Nat.le_of_ble_eq_true rfl⟩ (fun v0 G1 n1 H locs hR hG => ?_)
  obtain ⟨hv0, hg1, hn1⟩ := hR
  subst hv0
  rw [hg1, hn1] at hG
  have hG : gJK g L0 A s.heap (gU (gU G a (.inr (13, [.ref ar, .int hd, .int tl]))) ar (.inl (g.2.1 4, cap, .inr (.inr (.inr (.inr f)))))) sz H locs := hG
  refine lv_astore_nQ hx hb dJ18_pollLast_20 rfl hl (Nat.le_of_ble_eq_true rfl) (lv' := [(3, va_rf q2), (2, .int v1), (1, .ref ar), (0, .ref a)]) rfl (fun ls hl => ?_)
  refine lv_aload_nQ hx hb dJ18_pollLast_21 rfl (lv_at hl 0 rfl) ?_
  refine gb_ifnull hx hb dJ18_pollLast_22 (tgt := 34) (by decide) h (fun e0 h => ?_) (fun a3 e0 h => ?_)
  · subst e0
    have hl : lv_has ls 4 [(3, Value.null), (2, .int v1), (1, .ref ar), (0, .ref a)] := hl
    refine lv_aload_nN hx hb dJ18_pollLast_34 rfl (lv_at hl 0 rfl) ?_
    have h := Option.some.inj h
    subst h
    exact g_aret hQ (by first | exact Or.inl ⟨_, rfl⟩ | exact Or.inr ⟨_, rfl⟩) hG (Or.inl rfl) ⟨rfl, rfl, rfl⟩ (Nat.le_of_ble_eq_true rfl) (Nat.le_of_ble_eq_true rfl) dJ18_pollLast_35
  · subst e0
    have hl : lv_has ls 4 [(3, .ref a3), (2, .int v1), (1, .ref ar), (0, .ref a)] := hl
    refine lv_aload_n hx hb dJ18_pollLast_25 rfl (lv_at hl 2 rfl) ?_
    refine lv_aload_n hx hb dJ18_pollLast_26 rfl (lv_at hl 3 rfl) ?_
    refine lv_iload_n hx hb dJ18_pollLast_27 rfl (lv_at hl 1 rfl) ?_
    refine lv_dup_x1 hx hb dJ18_pollLast_28 rfl rfl ?_
    refine g_put hF hG ((gU_n n_a_ar).trans gU_s) l_a (C := RJ18) (T := TJ18) (N := 3) rfl in_J18 tyJ18 tyJ18_ok nmJ18 2 (by decide) q739 (fun _ h => h) rfl (by first | rfl | decide) rfl (Nat.le_of_ble_eq_true rfl) dJ18_pollLast_29 (fun H locs hG => ?_)
    rw [gU_sw n_a_ar, gU_ov] at hG
    have hG : gJK g L0 A s.heap (gU (gU G a (.inr (13, [.ref ar, .int hd, .int v1]))) ar (.inl (g.2.1 4, cap, .inr (.inr (.inr (.inr f)))))) sz H locs := hG
    refine lv_null hx hb dJ18_pollLast_32 ?_
    refine c_aastN hF hG gU_s l_ar 4 rfl h dJ18_pollLast_33 (fun f4 H locs h hG => ?_)
    rw [gU_ov] at hG
    have hG : gJK g L0 A s.heap (gU (gU G a (.inr (13, [.ref ar, .int hd, .int v1]))) ar (.inl (g.2.1 4, cap, .inr (.inr (.inr (.inr f4)))))) sz H locs := hG
    refine lv_aload_n hx hb dJ18_pollLast_34 rfl (lv_at hl 0 rfl) ?_
    have h := Option.some.inj h
    subst h
    exact g_aret hQ (by first | exact Or.inl ⟨_, rfl⟩ | exact Or.inr ⟨_, rfl⟩) hG (Or.inr ⟨_, rfl⟩) ⟨rfl, rfl, rfl⟩ (Nat.le_of_ble_eq_true rfl) (Nat.le_of_ble_eq_true rfl) dJ18_pollLast_35
/-! J18_removeLast -/
def j_J18_removeLast (a : Nat) (ar : Nat) (hd : Int32) (tl : Int32) (cap : Nat) (f : Nat → Option Nat) : Option (Option Nat × Int32 × (Nat → Option Nat)) :=
ob3 (j_J18_pollLast a ar hd tl cap f) fun (q1 : Option Nat) (w2 : Int32) (w3 : Nat → Option Nat) =>
oq q1 (
none) fun (a4 : Nat) =>
some ((some a4), w2, w3)
set_option maxRecDepth 100000 in
theorem w_J18_removeLast {l : Launch} {g : gNum} {L0 sz : Nat} {G : GH} {a : Nat} {ar : Nat} {hd : Int32} {tl : Int32} {cap : Nat} {f : Nat → Option Nat} (f_a : G a = some (.inr (13, [.ref ar, .int hd, .int tl]))) (f_ar : G ar = some (.inl (g.2.1 4, cap, .inr (.inr (.inr (.inr f)))))) (l_a : L0 ≤ a) (l_ar : L0 ≤ ar) {out : Option Nat × Int32 × (Nat → Option Nat)} (h : j_J18_removeLast a ar hd tl cap f = some out) : gMet l yJ18_removeLast (ws_ yJ18_removeLast cJ18_removeLast 2 (some (.object "java/lang/Object"))) g.1 clX L0 (gK g) [.ref a] G sz 2 44 0 0 (fun v G2 n2 => v = some (va_rf out.1) ∧ G2 = gU (gU G a (.inr (13, [.ref ar, .int hd, .int out.2.1]))) ar (.inl (g.2.1 4, cap, .inr (.inr (.inr (.inr out.2.2))))) ∧ n2 = sz) := by
  refine gMet.of (own := RJ18) (gK_ok g) (by decide +kernel) (Nat.le_of_ble_eq_true rfl) rfl ?_
  intro p e R s m args below meth c A Q ls H hF hQ hin hG hl
  have hx := hF.1.1
  have hb := hF.1.2.1
  have hts := hF.1.2.2.2.2
  have hl : lv_has ls 2 [(0, .ref a)] := hl
  have n_a_ar : a ≠ ar := fun q => by rw [q, f_ar] at f_a; simp at f_a
  have n_ar_a : ar ≠ a := Ne.symm n_a_ar
  have hG : gJK g L0 A s.heap (gU (gU G a (.inr (13, [.ref ar, .int hd, .int tl]))) ar (.inl (g.2.1 4, cap, .inr (.inr (.inr (.inr f)))))) sz H [] := by
    rw [gU_id f_a, gU_id f_ar]
    exact hG
  unfold j_J18_removeLast at h
  refine lv_aload_n hx hb dJ18_removeLast_0 rfl (lv_at hl 0 rfl) ?_
  obtain ⟨q1, w2, w3, hr, h⟩ := ob3_e h
  refine g_callV hF hG hl ((gU_n n_a_ar).trans gU_s) (C := RJ18) (T := TJ18) (N := 3) rfl (w_J18_pollLast (g := g) (l := l) (L0 := L0) (G := (gU (gU G a (.inr (13, [.ref ar, .int hd, .int tl]))) ar (.inl (g.2.1 4, cap, .inr (.inr (.inr (.inr f))))))) (sz := sz) (a := a) (ar := ar) (hd := hd) (tl := tl) (cap := cap) (f := f) (f_a := ((gU_n n_a_ar).trans gU_s)) (f_ar := gU_s) (l_a := l_a) (l_ar := l_ar)   hr) (cwV 0 hF.1.2.2.2.2 (lw_V q1792 q1793 q1794 q107 q1795) rfl rfl rfl (by decide +kernel) (g_room hF (Nat.le_of_ble_eq_true rfl) (Nat.le_of_ble_eq_true rfl))) rfl rfl (Nat.le_of_ble_eq_true rfl) dJ18_removeLast_1 ⟨by rw [hF.2.2.2.2]; exact Nat.le_of_ble_eq_true rfl, by rw [hF.2.2.2.2]; exact Nat.le_of_ble_eq_true rfl⟩ (fun v0 G1 n1 H locs hR hG => ?_)
  obtain ⟨hv0, hg1, hn1⟩ := hR
  subst hv0
  rw [hg1, hn1] at hG
  rw [gU_sw (a := a) (b := ar) n_a_ar, gU_ov (a := a), gU_ov (a := ar)] at hG
  have hG : gJK g L0 A s.heap (gU (gU G a (.inr (13, [.ref ar, .int hd, .int w2]))) ar (.inl (g.2.1 4, cap, .inr (.inr (.inr (.inr w3)))))) sz H locs := hG
  refine lv_astore_nQ hx hb dJ18_removeLast_4 rfl hl (Nat.le_of_ble_eq_true rfl) (lv' := [(1, va_rf q1), (0, .ref a)]) rfl (fun ls hl => ?_)
  refine lv_aload_nQ hx hb dJ18_removeLast_5 rfl (lv_at hl 0 rfl) ?_
  refine gb_ifnonnull hx hb dJ18_removeLast_6 (tgt := 17) (by decide) h (fun a4 e0 h => ?_) (fun e0 h => ?_)
  · subst e0
    have hl : lv_has ls 2 [(1, .ref a4), (0, .ref a)] := hl
    refine lv_aload_n hx hb dJ18_removeLast_17 rfl (lv_at hl 0 rfl) ?_
    have h := Option.some.inj h
    subst h
    exact g_aret hQ (by first | exact Or.inl ⟨_, rfl⟩ | exact Or.inr ⟨_, rfl⟩) hG (Or.inr ⟨_, rfl⟩) ⟨rfl, rfl, rfl⟩ (Nat.le_of_ble_eq_true rfl) (Nat.le_of_ble_eq_true rfl) dJ18_removeLast_18
  · subst e0
    have hl : lv_has ls 2 [(1, Value.null), (0, .ref a)] := hl
    cases h
/-! J18_addLast -/
def j_J18_addLast (a : Nat) (x : Nat) (ar : Nat) (hd : Int32) (tl : Int32) (cap : Nat) (f : Nat → Option Nat) : Option (Int32 × (Nat → Option Nat)) :=
ob1 (wrF cap f tl (some x)) fun (f1 : Nat → Option Nat) =>
ob1 (j_J18_inc tl (Int32.ofNat cap)) fun (v2 : Int32) =>
if hd = v2 then (
none)
else (
some (v2, f1))
set_option maxRecDepth 100000 in
theorem w_J18_addLast {l : Launch} {g : gNum} {L0 sz : Nat} {G : GH} {a : Nat} {x : Nat} {ar : Nat} {hd : Int32} {tl : Int32} {cap : Nat} {f : Nat → Option Nat} {fs : List Value} (f_a : G a = some (.inr (13, [.ref ar, .int hd, .int tl]))) (f_ar : G ar = some (.inl (g.2.1 4, cap, .inr (.inr (.inr (.inr f)))))) (f_x : G x = some (.inr (1, fs))) (l_a : L0 ≤ a) (l_ar : L0 ≤ ar) {out : Int32 × (Nat → Option Nat)} (h : j_J18_addLast a x ar hd tl cap f = some out) : gMet l yJ18_addLast (ws_ yJ18_addLast cJ18_addLast 3 none) g.1 clX L0 (gK g) [.ref a, .ref x] G sz 1 21 0 0 (fun v G2 n2 => v = none ∧ G2 = gU (gU G a (.inr (13, [.ref ar, .int hd, .int out.1]))) ar (.inl (g.2.1 4, cap, .inr (.inr (.inr (.inr out.2))))) ∧ n2 = sz) := by
  refine gMet.of (own := RJ18) (gK_ok g) (by decide +kernel) (Nat.le_of_ble_eq_true rfl) rfl ?_
  intro p e R s m args below meth c A Q ls H hF hQ hin hG hl
  have hx := hF.1.1
  have hb := hF.1.2.1
  have hts := hF.1.2.2.2.2
  have hl : lv_has ls 3 [(0, .ref a), (1, .ref x)] := hl
  have n_a_ar : a ≠ ar := fun q => by rw [q, f_ar] at f_a; simp at f_a
  have n_a_x : a ≠ x := fun q => by rw [q, f_x] at f_a; simp at f_a
  have n_ar_a : ar ≠ a := Ne.symm n_a_ar
  have n_ar_x : ar ≠ x := fun q => by rw [q, f_x] at f_ar; simp at f_ar
  have n_x_a : x ≠ a := Ne.symm n_a_x
  have n_x_ar : x ≠ ar := Ne.symm n_ar_x
  have hG : gJK g L0 A s.heap (gU (gU G a (.inr (13, [.ref ar, .int hd, .int tl]))) ar (.inl (g.2.1 4, cap, .inr (.inr (.inr (.inr f)))))) sz H [] := by
    rw [gU_id f_a, gU_id f_ar]
    exact hG
  unfold j_J18_addLast at h
  refine lv_aload_n hx hb dJ18_addLast_0 rfl (lv_at hl 1 rfl) ?_
  refine lv_ifnonnull hx hb dJ18_addLast_1 (tgt := 12) (by decide) ?_
  refine lv_aload_n hx hb dJ18_addLast_12 rfl (lv_at hl 0 rfl) ?_
  refine g_get hF hG ((gU_n n_a_ar).trans gU_s) (C := RJ18) (T := TJ18) (N := 3) rfl in_J18 0 (by decide) q737 (fun _ h => h) (v := .ref ar) rfl dJ18_addLast_13 ?_
  refine lv_astore_n hx hb dJ18_addLast_16 rfl hl (Nat.le_of_ble_eq_true rfl) (lv' := [(2, .ref ar), (0, .ref a), (1, .ref x)]) rfl (fun ls hl => ?_)
  refine lv_aload_n hx hb dJ18_addLast_17 rfl (lv_at hl 0 rfl) ?_
  refine lv_aload_n hx hb dJ18_addLast_18 rfl (lv_at hl 1 rfl) ?_
  refine g_get hF hG ((gU_n n_a_ar).trans gU_s) (C := RJ18) (T := TJ18) (N := 3) rfl in_J18 2 (by decide) q739 (fun _ h => h) (v := .int tl) rfl dJ18_addLast_19 ?_
  refine lv_aload_n hx hb dJ18_addLast_22 rfl (lv_at hl 2 rfl) ?_
  refine c_aastO hF hG gU_s l_ar 4 rfl ((gU_n n_x_ar).trans ((gU_n n_x_a).trans f_x)) rfl q2311 h dJ18_addLast_23 (fun f1 H locs h hG => ?_)
  rw [gU_ov] at hG
  have hG : gJK g L0 A s.heap (gU (gU G a (.inr (13, [.ref ar, .int hd, .int tl]))) ar (.inl (g.2.1 4, cap, .inr (.inr (.inr (.inr f1)))))) sz H locs := hG
  refine lv_aload_n hx hb dJ18_addLast_24 rfl (lv_at hl 1 rfl) ?_
  refine g_get hF hG ((gU_n n_a_ar).trans gU_s) (C := RJ18) (T := TJ18) (N := 3) rfl in_J18 1 (by decide) q738 (fun _ h => h) (v := .int hd) rfl dJ18_addLast_25 ?_
  refine lv_aload_n hx hb dJ18_addLast_28 rfl (lv_at hl 1 rfl) ?_
  refine lv_aload_n hx hb dJ18_addLast_29 rfl (lv_at hl 1 rfl) ?_
  refine g_get hF hG ((gU_n n_a_ar).trans gU_s) (C := RJ18) (T := TJ18) (N := 3) rfl in_J18 2 (by decide) q739 (fun _ h => h) (v := .int tl) rfl dJ18_addLast_30 ?_
  refine lv_aload_n hx hb dJ18_addLast_33 rfl (lv_at hl 0 rfl) ?_
  refine g_alen hF hG gU_s 4 rfl rfl dJ18_addLast_34 ?_
  obtain ⟨v2, hr, h⟩ := ob1_e h
  refine g_callS hF hG hl (w_J18_inc (g := g) (l := l) (L0 := L0) (G := (gU (gU G a (.inr (13, [.ref ar, .int hd, .int tl]))) ar (.inl (g.2.1 4, cap, .inr (.inr (.inr (.inr f1))))))) (sz := sz) (i := tl) (md := (Int32.ofNat cap))     hr) (va_cwS 2 hF.1.2.2.2.2 (lw_S q863 q864 q107 q865) rfl rfl rfl (by decide +kernel) (g_room hF (Nat.le_of_ble_eq_true rfl) (Nat.le_of_ble_eq_true rfl))) rfl rfl (Nat.le_of_ble_eq_true rfl) dJ18_addLast_35 ⟨by rw [hF.2.2.2.2]; exact Nat.le_of_ble_eq_true rfl, by rw [hF.2.2.2.2]; exact Nat.le_of_ble_eq_true rfl⟩ (fun v0 G1 n1 H locs hR hG => ?_)
  obtain ⟨hv0, hg1, hn1⟩ := hR
  subst hv0
  rw [hg1, hn1] at hG
  have hG : gJK g L0 A s.heap (gU (gU G a (.inr (13, [.ref ar, .int hd, .int tl]))) ar (.inl (g.2.1 4, cap, .inr (.inr (.inr (.inr f1)))))) sz H locs := hG
  refine lv_dup_x1 hx hb dJ18_addLast_38 rfl rfl ?_
  refine g_put hF hG ((gU_n n_a_ar).trans gU_s) l_a (C := RJ18) (T := TJ18) (N := 3) rfl in_J18 tyJ18 tyJ18_ok nmJ18 2 (by decide) q739 (fun _ h => h) rfl (by first | rfl | decide) rfl (Nat.le_of_ble_eq_true rfl) dJ18_addLast_39 (fun H locs hG => ?_)
  rw [gU_sw n_a_ar, gU_ov] at hG
  have hG : gJK g L0 A s.heap (gU (gU G a (.inr (13, [.ref ar, .int hd, .int v2]))) ar (.inl (g.2.1 4, cap, .inr (.inr (.inr (.inr f1)))))) sz H locs := hG
  refine gb_icmp_ne hx hb dJ18_addLast_42 (tgt := 50) (by decide) h (fun h => ?_) (fun h => ?_)
  · have h := Option.some.inj h
    subst h
    exact g_vret hQ hG ⟨rfl, rfl, rfl⟩ (Nat.le_of_ble_eq_true rfl) (Nat.le_of_ble_eq_true rfl) dJ18_addLast_50
  · cases h
/-! J18_circularClear -/
def j_J18_circularClear_L2 (j : Int32) (cap : Nat) : Nat → Int32 → Int32 → (Nat → Option Nat) → Option ((Nat → Option Nat))
  | 0, _, _, _ => none
  | n + 1, y3, y4, y5 =>
    if y4 ≤ y3 then (
    if y4 = j then (
    some y5)
    else (
    j_J18_circularClear_L2 j cap n 0 j y5))
    else (
    ob1 (wrF cap y5 y3 none) fun (f6 : Nat → Option Nat) =>
    nm (y3 + 1) fun (x7 : Int32) =>
    j_J18_circularClear_L2 j cap n x7 y4 f6)
def j_J18_circularClear (ar : Nat) (i : Int32) (j : Int32) (cap : Nat) (f : Nat → Option Nat) : Option (Nat → Option Nat) :=
ob1 (
if j < i then (
some (Int32.ofNat cap))
else (
some j)) fun (z1 : Int32) =>
ob1 (
j_J18_circularClear_L2 j cap 4096 i z1 f) fun (z8 : (Nat → Option Nat)) =>
some z8
set_option maxRecDepth 100000 in
theorem w_J18_circularClear {l : Launch} {g : gNum} {L0 sz : Nat} {G : GH} {ar : Nat} {i : Int32} {j : Int32} {cap : Nat} {f : Nat → Option Nat} (f_ar : G ar = some (.inl (g.2.1 4, cap, .inr (.inr (.inr (.inr f)))))) (l_ar : L0 ≤ ar) {out : Nat → Option Nat} (h : j_J18_circularClear ar i j cap f = some out) : gMet l yJ18_circularClear (ws_ yJ18_circularClear cJ18_circularClear 4 none) g.1 clX L0 (gK g) [.ref ar, .int i, .int j] G sz 0 0 0 0 (fun v G2 n2 => v = none ∧ G2 = gU G ar (.inl (g.2.1 4, cap, .inr (.inr (.inr (.inr out))))) ∧ n2 = sz) := by
  refine gMet.of (own := RJ18) (gK_ok g) (by decide +kernel) (Nat.le_of_ble_eq_true rfl) rfl ?_
  intro p e R s m args below meth c A Q ls H hF hQ hin hG hl
  have hx := hF.1.1
  have hb := hF.1.2.1
  have hts := hF.1.2.2.2.2
  have hl : lv_has ls 4 [(0, .ref ar), (1, .int i), (2, .int j)] := hl
  have hG : gJK g L0 A s.heap (gU G ar (.inl (g.2.1 4, cap, .inr (.inr (.inr (.inr f)))))) sz H [] := by
    rw [gU_id f_ar]
    exact hG
  unfold j_J18_circularClear at h
  refine lv_iload_n hx hb dJ18_circularClear_0 rfl (lv_at hl 1 rfl) ?_
  refine lv_iload_n hx hb dJ18_circularClear_1 rfl (lv_at hl 2 rfl) ?_
  obtain ⟨X1, h, hJ1⟩ := ob1_u h
  have J1 : ∀ (z1 : Int32), X1 = z1 → ∀ (H : Heap) (locs : List Loc) (ls : Array Slot), gJK g L0 A s.heap (gU G ar (.inl (g.2.1 4, cap, .inr (.inr (.inr (.inr f)))))) sz H locs → lv_has ls 4 [(0, .ref ar), (1, .int i), (2, .int j)] → W p l e R s m args below meth c H locs 0 0 Q (F0 m 11 ls [.int z1]) := by
    intro z1 e0 H locs ls hG hl
    have h := hJ1 z1 e0
    refine lv_istore_n hx hb dJ18_circularClear_11 rfl hl (Nat.le_of_ble_eq_true rfl) (lv' := [(3, .int z1), (0, .ref ar), (1, .int i), (2, .int j)]) rfl (fun ls hl => ?_)
    obtain ⟨X2, h, hJ2⟩ := ob1_u h
    have J2 : ∀ (z8 : (Nat → Option Nat)), X2 = z8 → ∀ (H : Heap) (locs : List Loc) (ls : Array Slot), gJK g L0 A s.heap (gU G ar (.inl (g.2.1 4, cap, .inr (.inr (.inr (.inr z8)))))) sz H locs → lv_has ls 4 [] → W p l e R s m args below meth c H locs 0 0 Q (F0 m 32 ls []) := by
      intro z8 e0 H locs ls hG hl
      have h := hJ2 z8 e0
      refine lv_goto hx hb dJ18_circularClear_32 (tgt := 42) (by decide) ?_
      have h := Option.some.inj h
      subst h
      exact g_vret hQ hG ⟨rfl, rfl, rfl⟩ (Nat.le_of_ble_eq_true rfl) (Nat.le_of_ble_eq_true rfl) dJ18_circularClear_42
    have LL2 : ∀ (n : Nat) (y3 : Int32) (y4 : Int32) (y5 : (Nat → Option Nat)), j_J18_circularClear_L2 j cap n y3 y4 y5 = some X2 → ∀ (H : Heap) (locs : List Loc) (ls : Array Slot), gJK g L0 A s.heap (gU G ar (.inl (g.2.1 4, cap, .inr (.inr (.inr (.inr y5)))))) sz H locs → lv_has ls 4 [(0, .ref ar), (1, .int y3), (2, .int j), (3, .int y4)] → W p l e R s m args below meth c H locs 0 0 Q (F0 m 12 ls []) := by
      intro n
      induction n with
      | zero =>
        intro y3 y4 y5 h
        rw [j_J18_circularClear_L2] at h
        cases h
      | succ n ihL2 =>
        intro y3 y4 y5 h H locs ls hG hl
        rw [j_J18_circularClear_L2] at h
        refine lv_iload_n hx hb dJ18_circularClear_12 rfl (lv_at hl 1 rfl) ?_
        refine lv_iload_n hx hb dJ18_circularClear_13 rfl (lv_at hl 3 rfl) ?_
        refine gb_icmp_ge hx hb dJ18_circularClear_14 (tgt := 27) (by decide) h (fun h => ?_) (fun h => ?_)
        · refine lv_iload_n hx hb dJ18_circularClear_27 rfl (lv_at hl 3 rfl) ?_
          refine lv_iload_n hx hb dJ18_circularClear_28 rfl (lv_at hl 2 rfl) ?_
          refine gb_icmp_ne hx hb dJ18_circularClear_29 (tgt := 35) (by decide) h (fun h => ?_) (fun h => ?_)
          · refine lv_iconst (v := 0) hx hb dJ18_circularClear_35 (by decide) ?_
            refine lv_istore_n hx hb dJ18_circularClear_36 rfl hl (Nat.le_of_ble_eq_true rfl) (lv' := [(1, .int 0), (0, .ref ar), (2, .int j), (3, .int y4)]) rfl (fun ls hl => ?_)
            refine lv_iload_n hx hb dJ18_circularClear_37 rfl (lv_at hl 2 rfl) ?_
            refine lv_istore_n hx hb dJ18_circularClear_38 rfl hl (Nat.le_of_ble_eq_true rfl) (lv' := [(3, .int j), (1, .int 0), (0, .ref ar), (2, .int j)]) rfl (fun ls hl => ?_)
            refine lv_goto hx hb dJ18_circularClear_39 (tgt := 12) (by decide) ?_
            exact ihL2 _ _ _ h _ _ _ hG (lv_sub hl [2, 1, 3, 0] rfl)
          · exact J2 _ (Option.some.inj h).symm _ _ _ hG (lv_sub hl [] rfl)
        · refine lv_aload_n hx hb dJ18_circularClear_17 rfl (lv_at hl 0 rfl) ?_
          refine lv_iload_n hx hb dJ18_circularClear_18 rfl (lv_at hl 1 rfl) ?_
          refine lv_null hx hb dJ18_circularClear_19 ?_
          refine c_aastN hF hG gU_s l_ar 4 rfl h dJ18_circularClear_20 (fun f6 H locs h hG => ?_)
          rw [gU_ov] at hG
          have hG : gJK g L0 A s.heap (gU G ar (.inl (g.2.1 4, cap, .inr (.inr (.inr (.inr f6)))))) sz H locs := hG
          refine gb_iinc (k' := 1) hx hb dJ18_circularClear_21 hl (k := 1) rfl (by decide) (Nat.le_of_ble_eq_true rfl) h (fun x7 ls h hl => ?_)
          have hl : lv_has ls 4 [(1, .int x7), (0, .ref ar), (2, .int j), (3, .int y4)] := hl
          refine lv_goto hx hb dJ18_circularClear_24 (tgt := 12) (by decide) ?_
          exact ihL2 _ _ _ h _ _ _ hG (lv_sub hl [1, 0, 2, 3] rfl)
    exact LL2 _ _ _ _ h _ _ _ hG (lv_sub hl [1, 2, 3, 0] rfl)
  refine gb_icmp_gt hx hb dJ18_circularClear_2 (tgt := 9) (by decide) h (fun h => ?_) (fun h => ?_)
  · refine lv_aload_n hx hb dJ18_circularClear_9 rfl (lv_at hl 0 rfl) ?_
    refine g_alen hF hG gU_s 4 rfl rfl dJ18_circularClear_10 ?_
    exact J1 _ (Option.some.inj h).symm _ _ _ hG hl
  · refine lv_iload_n hx hb dJ18_circularClear_5 rfl (lv_at hl 2 rfl) ?_
    refine lv_goto hx hb dJ18_circularClear_6 (tgt := 11) (by decide) ?_
    exact J1 _ (Option.some.inj h).symm _ _ _ hG hl
/-! J18_clear -/
def j_J18_clear (a : Nat) (ar : Nat) (hd : Int32) (tl : Int32) (cap : Nat) (f : Nat → Option Nat) : Option (Int32 × Int32 × (Nat → Option Nat)) :=
ob1 (j_J18_circularClear ar hd tl cap f) fun (w1 : Nat → Option Nat) =>
some (0, 0, w1)
set_option maxRecDepth 100000 in
theorem w_J18_clear {l : Launch} {g : gNum} {L0 sz : Nat} {G : GH} {a : Nat} {ar : Nat} {hd : Int32} {tl : Int32} {cap : Nat} {f : Nat → Option Nat} (f_a : G a = some (.inr (13, [.ref ar, .int hd, .int tl]))) (f_ar : G ar = some (.inl (g.2.1 4, cap, .inr (.inr (.inr (.inr f)))))) (l_a : L0 ≤ a) (l_ar : L0 ≤ ar) {out : Int32 × Int32 × (Nat → Option Nat)} (h : j_J18_clear a ar hd tl cap f = some out) : gMet l yJ18_clear (ws_ yJ18_clear cJ18_clear 1 none) g.1 clX L0 (gK g) [.ref a] G sz 1 23 0 0 (fun v G2 n2 => v = none ∧ G2 = gU (gU G a (.inr (13, [.ref ar, .int out.1, .int out.2.1]))) ar (.inl (g.2.1 4, cap, .inr (.inr (.inr (.inr out.2.2))))) ∧ n2 = sz) := by
  refine gMet.of (own := RJ18) (gK_ok g) (by decide +kernel) (Nat.le_of_ble_eq_true rfl) rfl ?_
  intro p e R s m args below meth c A Q ls H hF hQ hin hG hl
  have hx := hF.1.1
  have hb := hF.1.2.1
  have hts := hF.1.2.2.2.2
  have hl : lv_has ls 1 [(0, .ref a)] := hl
  have n_a_ar : a ≠ ar := fun q => by rw [q, f_ar] at f_a; simp at f_a
  have n_ar_a : ar ≠ a := Ne.symm n_a_ar
  have hG : gJK g L0 A s.heap (gU (gU G a (.inr (13, [.ref ar, .int hd, .int tl]))) ar (.inl (g.2.1 4, cap, .inr (.inr (.inr (.inr f)))))) sz H [] := by
    rw [gU_id f_a, gU_id f_ar]
    exact hG
  unfold j_J18_clear at h
  refine lv_aload_n hx hb dJ18_clear_0 rfl (lv_at hl 0 rfl) ?_
  refine g_get hF hG ((gU_n n_a_ar).trans gU_s) (C := RJ18) (T := TJ18) (N := 3) rfl in_J18 0 (by decide) q737 (fun _ h => h) (v := .ref ar) rfl dJ18_clear_1 ?_
  refine lv_aload_n hx hb dJ18_clear_4 rfl (lv_at hl 0 rfl) ?_
  refine g_get hF hG ((gU_n n_a_ar).trans gU_s) (C := RJ18) (T := TJ18) (N := 3) rfl in_J18 1 (by decide) q738 (fun _ h => h) (v := .int hd) rfl dJ18_clear_5 ?_
  refine lv_aload_n hx hb dJ18_clear_8 rfl (lv_at hl 0 rfl) ?_
  refine g_get hF hG ((gU_n n_a_ar).trans gU_s) (C := RJ18) (T := TJ18) (N := 3) rfl in_J18 2 (by decide) q739 (fun _ h => h) (v := .int tl) rfl dJ18_clear_9 ?_
  obtain ⟨w1, hr, h⟩ := ob1_e h
  refine g_callS hF hG hl (w_J18_circularClear (g := g) (l := l) (L0 := L0) (G := (gU (gU G a (.inr (13, [.ref ar, .int hd, .int tl]))) ar (.inl (g.2.1 4, cap, .inr (.inr (.inr (.inr f))))))) (sz := sz) (ar := ar) (i := hd) (j := tl) (cap := cap) (f := f) (f_ar := gU_s) (l_ar := l_ar)   hr) (va_cwS 3 hF.1.2.2.2.2 (lw_S q1430 q1431 q107 q1432) rfl rfl rfl (by decide +kernel) (g_room hF (Nat.le_of_ble_eq_true rfl) (Nat.le_of_ble_eq_true rfl))) rfl rfl (Nat.le_of_ble_eq_true rfl) dJ18_clear_12 ⟨by rw [hF.2.2.2.2]; exact Nat.le_of_ble_eq_true rfl, by rw [hF.2.2.2.2]; exact Nat.le_of_ble_eq_true rfl⟩ (fun v0 G1 n1 H locs hR hG => ?_)
  obtain ⟨hv0, hg1, hn1⟩ := hR
  subst hv0
  rw [hg1, hn1] at hG
  rw [gU_ov (a := ar)] at hG
  have hG : gJK g L0 A s.heap (gU (gU G a (.inr (13, [.ref ar, .int hd, .int tl]))) ar (.inl (g.2.1 4, cap, .inr (.inr (.inr (.inr w1)))))) sz H locs := hG
  refine lv_aload_n hx hb dJ18_clear_15 rfl (lv_at hl 0 rfl) ?_
  refine lv_aload_n hx hb dJ18_clear_16 rfl (lv_at hl 0 rfl) ?_
  refine lv_iconst (v := 0) hx hb dJ18_clear_17 (by decide) ?_
  refine lv_dup_x1 hx hb dJ18_clear_18 rfl rfl ?_
  refine g_put hF hG ((gU_n n_a_ar).trans gU_s) l_a (C := RJ18) (T := TJ18) (N := 3) rfl in_J18 tyJ18 tyJ18_ok nmJ18 2 (by decide) q739 (fun _ h => h) rfl (by first | rfl | decide) rfl (Nat.le_of_ble_eq_true rfl) dJ18_clear_19 (fun H locs hG => ?_)
  rw [gU_sw n_a_ar, gU_ov] at hG
  have hG : gJK g L0 A s.heap (gU (gU G a (.inr (13, [.ref ar, .int hd, .int 0]))) ar (.inl (g.2.1 4, cap, .inr (.inr (.inr (.inr w1)))))) sz H locs := hG
  refine g_put hF hG ((gU_n n_a_ar).trans gU_s) l_a (C := RJ18) (T := TJ18) (N := 3) rfl in_J18 tyJ18 tyJ18_ok nmJ18 1 (by decide) q738 (fun _ h => h) rfl (by first | rfl | decide) rfl (Nat.le_of_ble_eq_true rfl) dJ18_clear_22 (fun H locs hG => ?_)
  rw [gU_sw n_a_ar, gU_ov] at hG
  have hG : gJK g L0 A s.heap (gU (gU G a (.inr (13, [.ref ar, .int 0, .int 0]))) ar (.inl (g.2.1 4, cap, .inr (.inr (.inr (.inr w1)))))) sz H locs := hG
  have h := Option.some.inj h
  subst h
  exact g_vret hQ hG ⟨rfl, rfl, rfl⟩ (Nat.le_of_ble_eq_true rfl) (Nat.le_of_ble_eq_true rfl) dJ18_clear_25
/-! J9_coder -/
def j_J9_coder (a : Nat) (va : Nat) (cd : Int32) (hs : Int32) (hz : Int32) (nl : Nat) (f : Nat → Int32) : Option (Int32) :=
if (1 : Int32) = 0 then (
some 1)
else (
ob1 (retB cd) fun (r1 : Int32) =>
some r1)
set_option maxRecDepth 100000 in
theorem w_J9_coder {l : Launch} {g : gNum} {L0 sz : Nat} {G : GH} {a : Nat} {va : Nat} {cd : Int32} {hs : Int32} {hz : Int32} {nl : Nat} {f : Nat → Int32} (f_a : G a = some (.inr (16, [.ref va, .int cd, .int hs, .int hz]))) (f_va : G va = some (.inl (g.2.1 1, nl, .inl f))) {out : Int32} (h : j_J9_coder a va cd hs hz nl f = some out) : gMet l yJ9_coder (ws_ yJ9_coder cJ9_coder 1 (some .byte)) g.1 clX L0 (gK g) [.ref a] G sz 0 0 0 0 (fun v G2 n2 => v = some (.int out) ∧ G2 = G ∧ n2 = sz) := by
  refine gMet.of (own := RJ9) (gK_ok g) (by decide +kernel) (Nat.le_of_ble_eq_true rfl) rfl ?_
  intro p e R s m args below meth c A Q ls H hF hQ hin hG hl
  have hx := hF.1.1
  have hb := hF.1.2.1
  have hts := hF.1.2.2.2.2
  have hl : lv_has ls 1 [(0, .ref a)] := hl
  unfold j_J9_coder at h
  refine g_gets hF hG 0 (q := (_, _, _, .int 1)) rfl q318 dJ9_coder_0 ?_
  refine gb_if_eq hx hb dJ9_coder_3 (tgt := 13) (by decide) h (fun h => ?_) (fun h => ?_)
  · refine lv_iconst (v := 1) hx hb dJ9_coder_13 (by decide) ?_
    have h := Option.some.inj h
    subst h
    exact g_nret hQ hG (by decide) ⟨rfl, rfl, rfl⟩ (Nat.le_of_ble_eq_true rfl) (Nat.le_of_ble_eq_true rfl) dJ9_coder_14
  · refine lv_aload_n hx hb dJ9_coder_6 rfl (lv_at hl 0 rfl) ?_
    refine g_get hF hG f_a (C := RJ9) (T := TJ9) (N := 4) rfl in_J9 1 (by decide) q460 (fun _ h => h) (v := .int cd) rfl dJ9_coder_7 ?_
    refine lv_goto hx hb dJ9_coder_10 (tgt := 14) (by decide) ?_
    obtain ⟨r1, hz, h⟩ := ob1_e h
    obtain ⟨ez, hz⟩ := retB_e hz
    have h := Option.some.inj h
    subst h
    rw [← ez] at hQ
    exact g_nret hQ hG hz ⟨rfl, rfl, rfl⟩ (Nat.le_of_ble_eq_true rfl) (Nat.le_of_ble_eq_true rfl) dJ9_coder_14
/-! J9_isLatin1 -/
def j_J9_isLatin1 (a : Nat) (va : Nat) (cd : Int32) (hs : Int32) (hz : Int32) (nl : Nat) (f : Nat → Int32) : Option (Int32) :=
if (1 : Int32) = 0 then (
some 0)
else (
if cd = 0 then (
some 1)
else (
some 0))
set_option maxRecDepth 100000 in
theorem w_J9_isLatin1 {l : Launch} {g : gNum} {L0 sz : Nat} {G : GH} {a : Nat} {va : Nat} {cd : Int32} {hs : Int32} {hz : Int32} {nl : Nat} {f : Nat → Int32} (f_a : G a = some (.inr (16, [.ref va, .int cd, .int hs, .int hz]))) (f_va : G va = some (.inl (g.2.1 1, nl, .inl f))) {out : Int32} (h : j_J9_isLatin1 a va cd hs hz nl f = some out) : gMet l yJ9_isLatin1 (ws_ yJ9_isLatin1 cJ9_isLatin1 1 (some .boolean)) g.1 clX L0 (gK g) [.ref a] G sz 0 0 0 0 (fun v G2 n2 => v = some (.int out) ∧ G2 = G ∧ n2 = sz) := by
  refine gMet.of (own := RJ9) (gK_ok g) (by decide +kernel) (Nat.le_of_ble_eq_true rfl) rfl ?_
  intro p e R s m args below meth c A Q ls H hF hQ hin hG hl
  have hx := hF.1.1
  have hb := hF.1.2.1
  have hts := hF.1.2.2.2.2
  have hl : lv_has ls 1 [(0, .ref a)] := hl
  unfold j_J9_isLatin1 at h
  refine g_gets hF hG 0 (q := (_, _, _, .int 1)) rfl q318 dJ9_isLatin1_0 ?_
  refine gb_if_eq hx hb dJ9_isLatin1_3 (tgt := 17) (by decide) h (fun h => ?_) (fun h => ?_)
  · refine lv_iconst (v := 0) hx hb dJ9_isLatin1_17 (by decide) ?_
    have h := Option.some.inj h
    subst h
    exact g_nret hQ hG (by decide) ⟨rfl, rfl, rfl⟩ (Nat.le_of_ble_eq_true rfl) (Nat.le_of_ble_eq_true rfl) dJ9_isLatin1_18
  · refine lv_aload_n hx hb dJ9_isLatin1_6 rfl (lv_at hl 0 rfl) ?_
    refine g_get hF hG f_a (C := RJ9) (T := TJ9) (N := 4) rfl in_J9 1 (by decide) q460 (fun _ h => h) (v := .int cd) rfl dJ9_isLatin1_7 ?_
    refine gb_if_ne hx hb dJ9_isLatin1_10 (tgt := 17) (by decide) h (fun h => ?_) (fun h => ?_)
    · refine lv_iconst (v := 0) hx hb dJ9_isLatin1_17 (by decide) ?_
      have h := Option.some.inj h
      subst h
      exact g_nret hQ hG (by decide) ⟨rfl, rfl, rfl⟩ (Nat.le_of_ble_eq_true rfl) (Nat.le_of_ble_eq_true rfl) dJ9_isLatin1_18
    · refine lv_iconst (v := 1) hx hb dJ9_isLatin1_13 (by decide) ?_
      refine lv_goto hx hb dJ9_isLatin1_14 (tgt := 18) (by decide) ?_
      have h := Option.some.inj h
      subst h
      exact g_nret hQ hG (by decide) ⟨rfl, rfl, rfl⟩ (Nat.le_of_ble_eq_true rfl) (Nat.le_of_ble_eq_true rfl) dJ9_isLatin1_18
/-! J9_length -/
def j_J9_length (a : Nat) (va : Nat) (cd : Int32) (hs : Int32) (hz : Int32) (nl : Nat) (f : Nat → Int32) : Option (Int32) :=
ob1 (j_J9_coder a va cd hs hz nl f) fun (v1 : Int32) =>
some ((Int32.ofNat nl) >>> (v1 &&& 31))
set_option maxRecDepth 100000 in
theorem w_J9_length {l : Launch} {g : gNum} {L0 sz : Nat} {G : GH} {a : Nat} {va : Nat} {cd : Int32} {hs : Int32} {hz : Int32} {nl : Nat} {f : Nat → Int32} (f_a : G a = some (.inr (16, [.ref va, .int cd, .int hs, .int hz]))) (f_va : G va = some (.inl (g.2.1 1, nl, .inl f))) {out : Int32} (h : j_J9_length a va cd hs hz nl f = some out) : gMet l yJ9_length (ws_ yJ9_length cJ9_length 1 (some .int)) g.1 clX L0 (gK g) [.ref a] G sz 1 20 0 0 (fun v G2 n2 => v = some (.int out) ∧ G2 = G ∧ n2 = sz) := by
  refine gMet.of (own := RJ9) (gK_ok g) (by decide +kernel) (Nat.le_of_ble_eq_true rfl) rfl ?_
  intro p e R s m args below meth c A Q ls H hF hQ hin hG hl
  have hx := hF.1.1
  have hb := hF.1.2.1
  have hts := hF.1.2.2.2.2
  have hl : lv_has ls 1 [(0, .ref a)] := hl
  unfold j_J9_length at h
  refine lv_aload_n hx hb dJ9_length_0 rfl (lv_at hl 0 rfl) ?_
  refine g_get hF hG f_a (C := RJ9) (T := TJ9) (N := 4) rfl in_J9 0 (by decide) q459 (fun _ h => h) (v := .ref va) rfl dJ9_length_1 ?_
  refine g_alen hF hG f_va 1 rfl rfl dJ9_length_4 ?_
  refine lv_aload_n hx hb dJ9_length_5 rfl (lv_at hl 0 rfl) ?_
  obtain ⟨v1, hr, h⟩ := ob1_e h
  refine g_callV hF hG hl f_a (C := RJ9) (T := TJ9) (N := 4) rfl (w_J9_coder (g := g) (l := l) (L0 := L0) (G := (G)) (sz := sz) (a := a) (va := va) (cd := cd) (hs := hs) (hz := hz) (nl := nl) (f := f) (f_a := f_a) (f_va := f_va)    hr) (cwV 0 hF.1.2.2.2.2 (lw_V q314 q315 q316 q94 q317) rfl rfl rfl (by decide +kernel) (g_room hF (Nat.le_of_ble_eq_true rfl) (Nat.le_of_ble_eq_true rfl))) rfl rfl (Nat.le_of_ble_eq_true rfl) dJ9_length_6 ⟨by rw [hF.2.2.2.2]; exact Nat.le_of_ble_eq_true rfl, by rw [hF.2.2.2.2]; exact Nat.le_of_ble_eq_true rfl⟩ (fun v0 G1 n1 H locs hR hG => ?_)
  obtain ⟨hv0, hg1, hn1⟩ := hR
  subst hv0
  rw [hg1, hn1] at hG
  have hG : gJK g L0 A s.heap (G) sz H locs := hG
  refine lv_ishr hx hb dJ9_length_9 ?_
  have h := Option.some.inj h
  subst h
  exact g_iret hQ hG ⟨rfl, rfl, rfl⟩ (Nat.le_of_ble_eq_true rfl) (Nat.le_of_ble_eq_true rfl) dJ9_length_10
/-! J15_equals -/
def j_J15_equals_L1 (nl : Nat) (f : Nat → Int32) (nl2 : Nat) (f2 : Nat → Int32) : Nat → Int32 → Option (Int32 ⊕ (Unit))
  | 0, _ => none
  | n + 1, y2 =>
    if (Int32.ofNat nl) ≤ y2 then (
    some (Sum.inr ()))
    else (
    ob1 (rdF nl f y2) fun (v3 : Int32) =>
    ob1 (rdF nl2 f2 y2) fun (v4 : Int32) =>
    if v3 = v4 then (
    nm (y2 + 1) fun (x5 : Int32) =>
    j_J15_equals_L1 nl f nl2 f2 n x5)
    else (
    some (Sum.inl 0)))
def j_J15_equals (va : Nat) (vb : Nat) (nl : Nat) (f : Nat → Int32) (nl2 : Nat) (f2 : Nat → Int32) : Option (Int32) :=
if (Int32.ofNat nl) = (Int32.ofNat nl2) then (
oe0 (ρ := Int32) (
j_J15_equals_L1 nl f nl2 f2 4096 0) (fun r => some r) (
some 1))
else (
some 0)
set_option maxRecDepth 100000 in
theorem w_J15_equals {l : Launch} {g : gNum} {L0 sz : Nat} {G : GH} {va : Nat} {vb : Nat} {nl : Nat} {f : Nat → Int32} {nl2 : Nat} {f2 : Nat → Int32} (f_va : G va = some (.inl (g.2.1 1, nl, .inl f))) (f_vb : G vb = some (.inl (g.2.1 1, nl2, .inl f2))) {out : Int32} (h : j_J15_equals va vb nl f nl2 f2 = some out) : gMet l yJ15_equals (ws_ yJ15_equals cJ15_equals 3 (some .boolean)) g.1 clX L0 (gK g) [.ref va, .ref vb] G sz 0 0 0 0 (fun v G2 n2 => v = some (.int out) ∧ G2 = G ∧ n2 = sz) := by
  refine gMet.of (own := RJ15) (gK_ok g) (by decide +kernel) (Nat.le_of_ble_eq_true rfl) rfl ?_
  intro p e R s m args below meth c A Q ls H hF hQ hin hG hl
  have hx := hF.1.1
  have hb := hF.1.2.1
  have hts := hF.1.2.2.2.2
  have hl : lv_has ls 3 [(0, .ref va), (1, .ref vb)] := hl
  unfold j_J15_equals at h
  refine lv_aload_n hx hb dJ15_equals_0 rfl (lv_at hl 0 rfl) ?_
  refine g_alen hF hG f_va 1 rfl rfl dJ15_equals_1 ?_
  refine lv_aload_n hx hb dJ15_equals_2 rfl (lv_at hl 1 rfl) ?_
  refine g_alen hF hG f_vb 1 rfl rfl dJ15_equals_3 ?_
  refine gb_icmp_ne hx hb dJ15_equals_4 (tgt := 34) (by decide) h (fun h => ?_) (fun h => ?_)
  · refine lv_iconst (v := 0) hx hb dJ15_equals_34 (by decide) ?_
    have h := Option.some.inj h
    subst h
    exact g_nret hQ hG (by decide) ⟨rfl, rfl, rfl⟩ (Nat.le_of_ble_eq_true rfl) (Nat.le_of_ble_eq_true rfl) dJ15_equals_35
  · refine lv_iconst (v := 0) hx hb dJ15_equals_7 (by decide) ?_
    refine lv_istore_n hx hb dJ15_equals_8 rfl hl (Nat.le_of_ble_eq_true rfl) (lv' := [(2, .int 0), (0, .ref va), (1, .ref vb)]) rfl (fun ls hl => ?_)
    obtain ⟨X1, h, hE1, hJ1⟩ := oe0_u h
    have J1 : X1 = Sum.inr () → ∀ (H : Heap) (locs : List Loc) (ls : Array Slot), gJK g L0 A s.heap (G) sz H locs → lv_has ls 3 [] → W p l e R s m args below meth c H locs 0 0 Q (F0 m 32 ls []) := by
      intro  e0 H locs ls hG hl
      have h := hJ1 e0
      refine lv_iconst (v := 1) hx hb dJ15_equals_32 (by decide) ?_
      have h := Option.some.inj h
      subst h
      exact g_nret hQ hG (by decide) ⟨rfl, rfl, rfl⟩ (Nat.le_of_ble_eq_true rfl) (Nat.le_of_ble_eq_true rfl) dJ15_equals_33
    have LL1 : ∀ (n : Nat) (y2 : Int32), j_J15_equals_L1 nl f nl2 f2 n y2 = some X1 → ∀ (H : Heap) (locs : List Loc) (ls : Array Slot), gJK g L0 A s.heap (G) sz H locs → lv_has ls 3 [(0, .ref va), (1, .ref vb), (2, .int y2)] → W p l e R s m args below meth c H locs 0 0 Q (F0 m 9 ls []) := by
      intro n
      induction n with
      | zero =>
        intro y2 h
        rw [j_J15_equals_L1] at h
        cases h
      | succ n ihL1 =>
        intro y2 h H locs ls hG hl
        rw [j_J15_equals_L1] at h
        refine lv_iload_n hx hb dJ15_equals_9 rfl (lv_at hl 2 rfl) ?_
        refine lv_aload_n hx hb dJ15_equals_10 rfl (lv_at hl 0 rfl) ?_
        refine g_alen hF hG f_va 1 rfl rfl dJ15_equals_11 ?_
        refine gb_icmp_ge hx hb dJ15_equals_12 (tgt := 32) (by decide) h (fun h => ?_) (fun h => ?_)
        · exact J1 (Option.some.inj h).symm _ _ _ hG (lv_sub hl [] rfl)
        · refine lv_aload_n hx hb dJ15_equals_15 rfl (lv_at hl 0 rfl) ?_
          refine lv_iload_n hx hb dJ15_equals_16 rfl (lv_at hl 2 rfl) ?_
          refine c_bald hF hG f_va h dJ15_equals_17 (fun v3 h => ?_)
          refine lv_aload_n hx hb dJ15_equals_18 rfl (lv_at hl 1 rfl) ?_
          refine lv_iload_n hx hb dJ15_equals_19 rfl (lv_at hl 2 rfl) ?_
          refine c_bald hF hG f_vb h dJ15_equals_20 (fun v4 h => ?_)
          refine gb_icmp_eq hx hb dJ15_equals_21 (tgt := 26) (by decide) h (fun h => ?_) (fun h => ?_)
          · refine gb_iinc (k' := 1) hx hb dJ15_equals_26 hl (k := 2) rfl (by decide) (Nat.le_of_ble_eq_true rfl) h (fun x5 ls h hl => ?_)
            have hl : lv_has ls 3 [(2, .int x5), (0, .ref va), (1, .ref vb)] := hl
            refine lv_goto hx hb dJ15_equals_29 (tgt := 9) (by decide) ?_
            exact ihL1 _ h _ _ _ hG (lv_sub hl [1, 2, 0] rfl)
          · refine lv_iconst (v := 0) hx hb dJ15_equals_24 (by decide) ?_
            have h := hE1 _ (Option.some.inj h).symm
            have h := Option.some.inj h
            subst h
            exact g_nret hQ hG (by decide) ⟨rfl, rfl, rfl⟩ (Nat.le_of_ble_eq_true rfl) (Nat.le_of_ble_eq_true rfl) dJ15_equals_25
    exact LL1 _ _ h _ _ _ hG (lv_sub hl [1, 2, 0] rfl)
/-! J9_equals -/
def j_J9_equals (a : Nat) (b : Nat) (va : Nat) (cd : Int32) (hs : Int32) (hz : Int32) (nl : Nat) (f : Nat → Int32) (vb : Nat) (cd2 : Int32) (hs2 : Int32) (hz2 : Int32) (nl2 : Nat) (f2 : Nat → Int32) : Option (Int32) :=
if (1 : Int32) = 0 then (
some 0)
else (
oe0 (ρ := Int32) (
if (1 : Int32) = 0 then (
some (Sum.inr ()))
else (
if cd = cd2 then (
some (Sum.inr ()))
else (
some (Sum.inl 0)))) (fun r => some r) (
ob1 (j_J15_equals va vb nl f nl2 f2) fun (v1 : Int32) =>
if v1 = 0 then (
some 0)
else (
some 1)))
set_option maxRecDepth 100000 in
theorem w_J9_equals {l : Launch} {g : gNum} {L0 sz : Nat} {G : GH} {a : Nat} {b : Nat} {va : Nat} {cd : Int32} {hs : Int32} {hz : Int32} {nl : Nat} {f : Nat → Int32} {vb : Nat} {cd2 : Int32} {hs2 : Int32} {hz2 : Int32} {nl2 : Nat} {f2 : Nat → Int32} (f_a : G a = some (.inr (16, [.ref va, .int cd, .int hs, .int hz]))) (f_va : G va = some (.inl (g.2.1 1, nl, .inl f))) (f_b : G b = some (.inr (16, [.ref vb, .int cd2, .int hs2, .int hz2]))) (f_vb : G vb = some (.inl (g.2.1 1, nl2, .inl f2))) (n0 : some a ≠ some b) {out : Int32} (h : j_J9_equals a b va cd hs hz nl f vb cd2 hs2 hz2 nl2 f2 = some out) : gMet l yJ9_equals (ws_ yJ9_equals cJ9_equals 3 (some .boolean)) g.1 clX L0 (gK g) [.ref a, .ref b] G sz 1 22 0 0 (fun v G2 n2 => v = some (.int out) ∧ G2 = G ∧ n2 = sz) := by
  refine gMet.of (own := RJ9) (gK_ok g) (by decide +kernel) (Nat.le_of_ble_eq_true rfl) rfl ?_
  intro p e R s m args below meth c A Q ls H hF hQ hin hG hl
  have hx := hF.1.1
  have hb := hF.1.2.1
  have hts := hF.1.2.2.2.2
  have hl : lv_has ls 3 [(0, .ref a), (1, .ref b)] := hl
  unfold j_J9_equals at h
  refine lv_aload_n hx hb dJ9_equals_0 rfl (lv_at hl 0 rfl) ?_
  refine lv_aload_n hx hb dJ9_equals_1 rfl (lv_at hl 1 rfl) ?_
  refine lv_acmp_ne hx hb dJ9_equals_2 (tgt := 7) (by decide) (fun _ => ?_) (fun e0 => absurd e0 n0)
  refine lv_aload_n hx hb dJ9_equals_7 rfl (lv_at hl 1 rfl) ?_
  refine g_instS hF hG f_b (q := (RJ9, TJ9, 4)) rfl q1144 dJ9_equals_8 ?_
  refine gb_if_eq hx hb dJ9_equals_11 (tgt := 54) (by decide) h (fun h => ?_) (fun h => ?_)
  · refine lv_iconst (v := 0) hx hb dJ9_equals_54 (by decide) ?_
    have h := Option.some.inj h
    subst h
    exact g_nret hQ hG (by decide) ⟨rfl, rfl, rfl⟩ (Nat.le_of_ble_eq_true rfl) (Nat.le_of_ble_eq_true rfl) dJ9_equals_55
  · refine lv_aload_n hx hb dJ9_equals_14 rfl (lv_at hl 1 rfl) ?_
    refine g_castS hF hG f_b (q := (RJ9, TJ9, 4)) rfl q1144 dJ9_equals_15 ?_
    refine lv_astore_n hx hb dJ9_equals_18 rfl hl (Nat.le_of_ble_eq_true rfl) (lv' := [(2, .ref b), (0, .ref a), (1, .ref b)]) rfl (fun ls hl => ?_)
    refine g_gets hF hG 0 (q := (_, _, _, .int 1)) rfl q318 dJ9_equals_19 ?_
    obtain ⟨X1, h, hE1, hJ1⟩ := oe0_u h
    have J1 : X1 = Sum.inr () → ∀ (H : Heap) (locs : List Loc) (ls : Array Slot), gJK g L0 A s.heap (G) sz H locs → lv_has ls 3 [(0, .ref a), (2, .ref b)] → W p l e R s m args below meth c H locs 0 0 Q (F0 m 36 ls []) := by
      intro  e0 H locs ls hG hl
      have h := hJ1 e0
      refine lv_aload_n hx hb dJ9_equals_36 rfl (lv_at hl 0 rfl) ?_
      refine g_get hF hG f_a (C := RJ9) (T := TJ9) (N := 4) rfl in_J9 0 (by decide) q459 (fun _ h => h) (v := .ref va) rfl dJ9_equals_37 ?_
      refine lv_aload_n hx hb dJ9_equals_40 rfl (lv_at hl 1 rfl) ?_
      refine g_get hF hG f_b (C := RJ9) (T := TJ9) (N := 4) rfl in_J9 0 (by decide) q459 (fun _ h => h) (v := .ref vb) rfl dJ9_equals_41 ?_
      obtain ⟨v1, hr, h⟩ := ob1_e h
      refine g_callS hF hG hl (w_J15_equals (g := g) (l := l) (L0 := L0) (G := (G)) (sz := sz) (va := va) (vb := vb) (nl := nl) (f := f) (nl2 := nl2) (f2 := f2) (f_va := f_va) (f_vb := f_vb)    hr) (va_cwS 2 hF.1.2.2.2.2 (lw_S q1145 q1146 q101 q1147) rfl rfl rfl (by decide +kernel) (g_room hF (Nat.le_of_ble_eq_true rfl) (Nat.le_of_ble_eq_true rfl))) rfl rfl (Nat.le_of_ble_eq_true rfl) dJ9_equals_44 ⟨by rw [hF.2.2.2.2]; exact Nat.le_of_ble_eq_true rfl, by rw [hF.2.2.2.2]; exact Nat.le_of_ble_eq_true rfl⟩ (fun v0 G1 n1 H locs hR hG => ?_)
      obtain ⟨hv0, hg1, hn1⟩ := hR
      subst hv0
      rw [hg1, hn1] at hG
      have hG : gJK g L0 A s.heap (G) sz H locs := hG
      refine gb_if_eq hx hb dJ9_equals_47 (tgt := 54) (by decide) h (fun h => ?_) (fun h => ?_)
      · refine lv_iconst (v := 0) hx hb dJ9_equals_54 (by decide) ?_
        have h := Option.some.inj h
        subst h
        exact g_nret hQ hG (by decide) ⟨rfl, rfl, rfl⟩ (Nat.le_of_ble_eq_true rfl) (Nat.le_of_ble_eq_true rfl) dJ9_equals_55
      · refine lv_iconst (v := 1) hx hb dJ9_equals_50 (by decide) ?_
        refine lv_goto hx hb dJ9_equals_51 (tgt := 55) (by decide) ?_
        have h := Option.some.inj h
        subst h
        exact g_nret hQ hG (by decide) ⟨rfl, rfl, rfl⟩ (Nat.le_of_ble_eq_true rfl) (Nat.le_of_ble_eq_true rfl) dJ9_equals_55
    refine gb_if_eq hx hb dJ9_equals_22 (tgt := 36) (by decide) h (fun h => ?_) (fun h => ?_)
    · exact J1 (Option.some.inj h).symm _ _ _ hG (lv_sub hl [1, 0] rfl)
    · refine lv_aload_n hx hb dJ9_equals_25 rfl (lv_at hl 1 rfl) ?_
      refine g_get hF hG f_a (C := RJ9) (T := TJ9) (N := 4) rfl in_J9 1 (by decide) q460 (fun _ h => h) (v := .int cd) rfl dJ9_equals_26 ?_
      refine lv_aload_n hx hb dJ9_equals_29 rfl (lv_at hl 0 rfl) ?_
      refine g_get hF hG f_b (C := RJ9) (T := TJ9) (N := 4) rfl in_J9 1 (by decide) q460 (fun _ h => h) (v := .int cd2) rfl dJ9_equals_30 ?_
      refine gb_icmp_ne hx hb dJ9_equals_33 (tgt := 54) (by decide) h (fun h => ?_) (fun h => ?_)
      · refine lv_iconst (v := 0) hx hb dJ9_equals_54 (by decide) ?_
        have h := hE1 _ (Option.some.inj h).symm
        have h := Option.some.inj h
        subst h
        exact g_nret hQ hG (by decide) ⟨rfl, rfl, rfl⟩ (Nat.le_of_ble_eq_true rfl) (Nat.le_of_ble_eq_true rfl) dJ9_equals_55
      · exact J1 (Option.some.inj h).symm _ _ _ hG (lv_sub hl [1, 0] rfl)
/-! J9_checkIndex -/
def j_J9_checkIndex (i : Int32) (k : Int32) : Option (Unit) :=
ob1 (j_J14_checkIndex i k) fun (v1 : Int32) =>
some ()
set_option maxRecDepth 100000 in
theorem w_J9_checkIndex {l : Launch} {g : gNum} {L0 sz : Nat} {G : GH} {i : Int32} {k : Int32} {out : Unit} (h : j_J9_checkIndex i k = some out) : gMet l yJ9_checkIndex (ws_ yJ9_checkIndex cJ9_checkIndex 2 none) g.1 clX L0 (gK g) [.int i, .int k] G sz 1 22 0 0 (fun v G2 n2 => v = none ∧ G2 = G ∧ n2 = sz) := by
  refine gMet.of (own := RJ9) (gK_ok g) (by decide +kernel) (Nat.le_of_ble_eq_true rfl) rfl ?_
  intro p e R s m args below meth c A Q ls H hF hQ hin hG hl
  have hx := hF.1.1
  have hb := hF.1.2.1
  have hts := hF.1.2.2.2.2
  have hl : lv_has ls 2 [(0, .int i), (1, .int k)] := hl
  unfold j_J9_checkIndex at h
  refine lv_iload_n hx hb dJ9_checkIndex_0 rfl (lv_at hl 0 rfl) ?_
  refine lv_iload_n hx hb dJ9_checkIndex_1 rfl (lv_at hl 1 rfl) ?_
  refine g_gets hF hG 5 (q := (_, _, _, va_rf (g.2.2.2 4))) rfl q296 dJ9_checkIndex_2 ?_
  obtain ⟨v1, hr, h⟩ := ob1_e h
  refine g_callS hF hG hl (w_J14_checkIndex (g := g) (l := l) (L0 := L0) (G := (G)) (sz := sz) (i := i) (n := k) (z := (g.2.2.2 4))     hr) (va_cwS 3 hF.1.2.2.2.2 (lw_S q1138 q723 q100 q724) rfl rfl rfl (by decide +kernel) (g_room hF (Nat.le_of_ble_eq_true rfl) (Nat.le_of_ble_eq_true rfl))) rfl rfl (Nat.le_of_ble_eq_true rfl) dJ9_checkIndex_5 ⟨by rw [hF.2.2.2.2]; exact Nat.le_of_ble_eq_true rfl, by rw [hF.2.2.2.2]; exact Nat.le_of_ble_eq_true rfl⟩ (fun v0 G1 n1 H locs hR hG => ?_)
  obtain ⟨hv0, hg1, hn1⟩ := hR
  subst hv0
  rw [hg1, hn1] at hG
  have hG : gJK g L0 A s.heap (G) sz H locs := hG
  refine lv_pop hx hb dJ9_checkIndex_8 rfl ?_
  have h := Option.some.inj h
  subst h
  exact g_vret hQ hG ⟨rfl, rfl, rfl⟩ (Nat.le_of_ble_eq_true rfl) (Nat.le_of_ble_eq_true rfl) dJ9_checkIndex_9
/-! J15_charAt -/
def j_J15_charAt (va : Nat) (i : Int32) (nl : Nat) (f : Nat → Int32) : Option (Int32) :=
ob0 (j_J9_checkIndex i (Int32.ofNat nl)) <|
ob1 (rdF nl f i) fun (v1 : Int32) =>
ob1 (retC ((((v1 &&& 255)).toUInt32 % 65536).toInt32)) fun (r2 : Int32) =>
some r2
set_option maxRecDepth 100000 in
theorem w_J15_charAt {l : Launch} {g : gNum} {L0 sz : Nat} {G : GH} {va : Nat} {i : Int32} {nl : Nat} {f : Nat → Int32} (f_va : G va = some (.inl (g.2.1 1, nl, .inl f))) {out : Int32} (h : j_J15_charAt va i nl f = some out) : gMet l yJ15_charAt (ws_ yJ15_charAt cJ15_charAt 2 (some .char)) g.1 clX L0 (gK g) [.ref va, .int i] G sz 2 43 0 0 (fun v G2 n2 => v = some (.int out) ∧ G2 = G ∧ n2 = sz) := by
  refine gMet.of (own := RJ15) (gK_ok g) (by decide +kernel) (Nat.le_of_ble_eq_true rfl) rfl ?_
  intro p e R s m args below meth c A Q ls H hF hQ hin hG hl
  have hx := hF.1.1
  have hb := hF.1.2.1
  have hts := hF.1.2.2.2.2
  have hl : lv_has ls 2 [(0, .ref va), (1, .int i)] := hl
  unfold j_J15_charAt at h
  refine lv_iload_n hx hb dJ15_charAt_0 rfl (lv_at hl 1 rfl) ?_
  refine lv_aload_n hx hb dJ15_charAt_1 rfl (lv_at hl 0 rfl) ?_
  refine g_alen hF hG f_va 1 rfl rfl dJ15_charAt_2 ?_
  obtain ⟨hr, h⟩ := ob0_e h
  refine g_callS hF hG hl (w_J9_checkIndex (g := g) (l := l) (L0 := L0) (G := (G)) (sz := sz) (i := i) (k := (Int32.ofNat nl))     hr) (va_cwS 2 hF.1.2.2.2.2 (lw_S q1994 q1136 q94 q1137) rfl rfl rfl (by decide +kernel) (g_room hF (Nat.le_of_ble_eq_true rfl) (Nat.le_of_ble_eq_true rfl))) rfl rfl (Nat.le_of_ble_eq_true rfl) dJ15_charAt_3 ⟨by rw [hF.2.2.2.2]; exact Nat.le_of_ble_eq_true rfl, by rw [hF.2.2.2.2]; exact Nat.le_of_ble_eq_true rfl⟩ (fun v0 G1 n1 H locs hR hG => ?_)
  obtain ⟨hv0, hg1, hn1⟩ := hR
  subst hv0
  rw [hg1, hn1] at hG
  have hG : gJK g L0 A s.heap (G) sz H locs := hG
  refine lv_aload_n hx hb dJ15_charAt_6 rfl (lv_at hl 0 rfl) ?_
  refine lv_iload_n hx hb dJ15_charAt_7 rfl (lv_at hl 1 rfl) ?_
  refine c_bald hF hG f_va h dJ15_charAt_8 (fun v1 h => ?_)
  refine lv_sipush (v := 255) hx hb dJ15_charAt_9 (by decide) ?_
  refine lv_iand hx hb dJ15_charAt_12 ?_
  refine lv_i2c hx hb dJ15_charAt_13 rfl ?_
  obtain ⟨r2, hz, h⟩ := ob1_e h
  obtain ⟨ez, hz⟩ := retC_e hz
  have h := Option.some.inj h
  subst h
  rw [← ez] at hQ
  exact g_nret hQ hG hz ⟨rfl, rfl, rfl⟩ (Nat.le_of_ble_eq_true rfl) (Nat.le_of_ble_eq_true rfl) dJ15_charAt_14
/-! J9_charAt -/
def j_J9_charAt (a : Nat) (i : Int32) (va : Nat) (cd : Int32) (hs : Int32) (hz : Int32) (nl : Nat) (f : Nat → Int32) : Option (Int32) :=
ob1 (j_J9_isLatin1 a va cd hs hz nl f) fun (v1 : Int32) =>
if v1 = 0 then (
none)
else (
ob1 (j_J15_charAt va i nl f) fun (v2 : Int32) =>
ob1 (retC v2) fun (r3 : Int32) =>
some r3)
set_option maxRecDepth 100000 in
theorem w_J9_charAt {l : Launch} {g : gNum} {L0 sz : Nat} {G : GH} {a : Nat} {i : Int32} {va : Nat} {cd : Int32} {hs : Int32} {hz : Int32} {nl : Nat} {f : Nat → Int32} (f_a : G a = some (.inr (16, [.ref va, .int cd, .int hs, .int hz]))) (f_va : G va = some (.inl (g.2.1 1, nl, .inl f))) {out : Int32} (h : j_J9_charAt a i va cd hs hz nl f = some out) : gMet l yJ9_charAt (ws_ yJ9_charAt cJ9_charAt 2 (some .char)) g.1 clX L0 (gK g) [.ref a, .int i] G sz 3 64 0 0 (fun v G2 n2 => v = some (.int out) ∧ G2 = G ∧ n2 = sz) := by
  refine gMet.of (own := RJ9) (gK_ok g) (by decide +kernel) (Nat.le_of_ble_eq_true rfl) rfl ?_
  intro p e R s m args below meth c A Q ls H hF hQ hin hG hl
  have hx := hF.1.1
  have hb := hF.1.2.1
  have hts := hF.1.2.2.2.2
  have hl : lv_has ls 2 [(0, .ref a), (1, .int i)] := hl
  unfold j_J9_charAt at h
  refine lv_aload_n hx hb dJ9_charAt_0 rfl (lv_at hl 0 rfl) ?_
  obtain ⟨v1, hr, h⟩ := ob1_e h
  refine g_callV hF hG hl f_a (C := RJ9) (T := TJ9) (N := 4) rfl (w_J9_isLatin1 (g := g) (l := l) (L0 := L0) (G := (G)) (sz := sz) (a := a) (va := va) (cd := cd) (hs := hs) (hz := hz) (nl := nl) (f := f) (f_a := f_a) (f_va := f_va)    hr) (cwV 0 hF.1.2.2.2.2 (lw_V q1317 q1318 q1319 q94 q1320) rfl rfl rfl (by decide +kernel) (g_room hF (Nat.le_of_ble_eq_true rfl) (Nat.le_of_ble_eq_true rfl))) rfl rfl (Nat.le_of_ble_eq_true rfl) dJ9_charAt_1 ⟨by rw [hF.2.2.2.2]; exact Nat.le_of_ble_eq_true rfl, by rw [hF.2.2.2.2]; exact Nat.le_of_ble_eq_true rfl⟩ (fun v0 G1 n1 H locs hR hG => ?_)
  obtain ⟨hv0, hg1, hn1⟩ := hR
  subst hv0
  rw [hg1, hn1] at hG
  have hG : gJK g L0 A s.heap (G) sz H locs := hG
  refine gb_if_eq hx hb dJ9_charAt_4 (tgt := 16) (by decide) h (fun h => ?_) (fun h => ?_)
  · cases h
  · refine lv_aload_n hx hb dJ9_charAt_7 rfl (lv_at hl 0 rfl) ?_
    refine g_get hF hG f_a (C := RJ9) (T := TJ9) (N := 4) rfl in_J9 0 (by decide) q459 (fun _ h => h) (v := .ref va) rfl dJ9_charAt_8 ?_
    refine lv_iload_n hx hb dJ9_charAt_11 rfl (lv_at hl 1 rfl) ?_
    obtain ⟨v2, hr, h⟩ := ob1_e h
    refine g_callS hF hG hl (w_J15_charAt (g := g) (l := l) (L0 := L0) (G := (G)) (sz := sz) (va := va) (i := i) (nl := nl) (f := f) (f_va := f_va)    hr) (va_cwS 2 hF.1.2.2.2.2 (lw_S q1991 q1992 q101 q1993) rfl rfl rfl (by decide +kernel) (g_room hF (Nat.le_of_ble_eq_true rfl) (Nat.le_of_ble_eq_true rfl))) rfl rfl (Nat.le_of_ble_eq_true rfl) dJ9_charAt_12 ⟨by rw [hF.2.2.2.2]; exact Nat.le_of_ble_eq_true rfl, by rw [hF.2.2.2.2]; exact Nat.le_of_ble_eq_true rfl⟩ (fun v0 G1 n1 H locs hR hG => ?_)
    obtain ⟨hv0, hg1, hn1⟩ := hR
    subst hv0
    rw [hg1, hn1] at hG
    have hG : gJK g L0 A s.heap (G) sz H locs := hG
    obtain ⟨r3, hz, h⟩ := ob1_e h
    obtain ⟨ez, hz⟩ := retC_e hz
    have h := Option.some.inj h
    subst h
    rw [← ez] at hQ
    exact g_nret hQ hG hz ⟨rfl, rfl, rfl⟩ (Nat.le_of_ble_eq_true rfl) (Nat.le_of_ble_eq_true rfl) dJ9_charAt_15
/-! X3_size -/
def j_X3_size (u : Nat) (uo : Nat) (ud : Nat) (un : Nat) (us : Nat) (ndm : Int32) (off : Int32) (pat : Int32) (ret : Int32) (fus : Int32) (stz : Int32) (mod : Int32) (ar : Nat) (k : Int32) : Option (Int32) :=
ob1 (j_J2_size uo mod ar k) fun (v1 : Int32) =>
some v1
set_option maxRecDepth 100000 in
theorem w_X3_size {l : Launch} {g : gNum} {L0 sz : Nat} {G : GH} {u : Nat} {uo : Nat} {ud : Nat} {un : Nat} {us : Nat} {ndm : Int32} {off : Int32} {pat : Int32} {ret : Int32} {fus : Int32} {stz : Int32} {mod : Int32} {ar : Nat} {k : Int32} (f_u : G u = some (.inr (2, [.ref uo, .ref ud, .ref un, .ref us, .int ndm, .int off, .int pat, .int ret, .int fus, .int stz]))) (f_uo : G uo = some (.inr (12, [.int mod, .ref ar, .int k]))) {out : Int32} (h : j_X3_size u uo ud un us ndm off pat ret fus stz mod ar k = some out) : gMet l yX3_size (ws_ yX3_size cX3_size 1 (some .int)) g.1 clX L0 (gK g) [.ref u] G sz 1 20 0 0 (fun v G2 n2 => v = some (.int out) ∧ G2 = G ∧ n2 = sz) := by
  refine gMet.of (own := RX3) (gK_ok g) (by decide +kernel) (Nat.le_of_ble_eq_true rfl) rfl ?_
  intro p e R s m args below meth c A Q ls H hF hQ hin hG hl
  have hx := hF.1.1
  have hb := hF.1.2.1
  have hts := hF.1.2.2.2.2
  have hl : lv_has ls 1 [(0, .ref u)] := hl
  unfold j_X3_size at h
  refine lv_aload_n hx hb dX3_size_0 rfl (lv_at hl 0 rfl) ?_
  refine g_get hF hG f_u (C := RX3) (T := TX3) (N := 10) rfl in_X3 0 (by decide) q488 (fun _ h => h) (v := .ref uo) rfl dX3_size_1 ?_
  obtain ⟨v1, hr, h⟩ := ob1_e h
  refine g_callF hF hG hl f_uo (C := RJ2) (T := TJ2) (N := 3) rfl (w_J2_size (g := g) (l := l) (L0 := L0) (G := (G)) (sz := sz) (a := uo) (mod := mod) (ar := ar) (k := k) (f_a := f_uo)    hr) (va_cwF 0 hF.1.2.2.2.2 (lw_F q698 q702 q704 q87 q706) rfl rfl rfl (g_fw hF 0 rfl) (by decide +kernel) (g_room hF (Nat.le_of_ble_eq_true rfl) (Nat.le_of_ble_eq_true rfl))) rfl rfl (Nat.le_of_ble_eq_true rfl) dX3_size_4 ⟨by rw [hF.2.2.2.2]; exact Nat.le_of_ble_eq_true rfl, by rw [hF.2.2.2.2]; exact Nat.le_of_ble_eq_true rfl⟩ (fun v0 G1 n1 H locs hR hG => ?_)
  obtain ⟨hv0, hg1, hn1⟩ := hR
  subst hv0
  rw [hg1, hn1] at hG
  have hG : gJK g L0 A s.heap (G) sz H locs := hG
  have h := Option.some.inj h
  subst h
  exact g_iret hQ hG ⟨rfl, rfl, rfl⟩ (Nat.le_of_ble_eq_true rfl) (Nat.le_of_ble_eq_true rfl) dX3_size_9
/-! X1_has -/
def j_X1_has (x : Int32) (y : Int32) : Option (Int32) :=
if ((x >>> (y &&& 31)) &&& 1) = 1 then (
some 1)
else (
some 0)
set_option maxRecDepth 100000 in
theorem w_X1_has {l : Launch} {g : gNum} {L0 sz : Nat} {G : GH} {x : Int32} {y : Int32} {out : Int32} (h : j_X1_has x y = some out) : gMet l yX1_has (ws_ yX1_has cX1_has 2 (some .boolean)) g.1 clX L0 (gK g) [.int x, .int y] G sz 0 0 0 0 (fun v G2 n2 => v = some (.int out) ∧ G2 = G ∧ n2 = sz) := by
  refine gMet.of (own := RX1) (gK_ok g) (by decide +kernel) (Nat.le_of_ble_eq_true rfl) rfl ?_
  intro p e R s m args below meth c A Q ls H hF hQ hin hG hl
  have hx := hF.1.1
  have hb := hF.1.2.1
  have hts := hF.1.2.2.2.2
  have hl : lv_has ls 2 [(0, .int x), (1, .int y)] := hl
  unfold j_X1_has at h
  refine lv_iload_n hx hb dX1_has_0 rfl (lv_at hl 0 rfl) ?_
  refine lv_iload_n hx hb dX1_has_1 rfl (lv_at hl 1 rfl) ?_
  refine lv_ishr hx hb dX1_has_2 ?_
  refine lv_iconst (v := 1) hx hb dX1_has_3 (by decide) ?_
  refine lv_iand hx hb dX1_has_4 ?_
  refine lv_iconst (v := 1) hx hb dX1_has_5 (by decide) ?_
  refine gb_icmp_ne hx hb dX1_has_6 (tgt := 13) (by decide) h (fun h => ?_) (fun h => ?_)
  · refine lv_iconst (v := 0) hx hb dX1_has_13 (by decide) ?_
    have h := Option.some.inj h
    subst h
    exact g_nret hQ hG (by decide) ⟨rfl, rfl, rfl⟩ (Nat.le_of_ble_eq_true rfl) (Nat.le_of_ble_eq_true rfl) dX1_has_14
  · refine lv_iconst (v := 1) hx hb dX1_has_9 (by decide) ?_
    refine lv_goto hx hb dX1_has_10 (tgt := 14) (by decide) ?_
    have h := Option.some.inj h
    subst h
    exact g_nret hQ hG (by decide) ⟨rfl, rfl, rfl⟩ (Nat.le_of_ble_eq_true rfl) (Nat.le_of_ble_eq_true rfl) dX1_has_14
/-! X1_in -/
def j_X1_in (x : Int64) (y : Int64) (z : Int64) : Option (Int32) :=
if (lg_cmp x y) < 0 then (
some 0)
else (
if 0 < (lg_cmp x z) then (
some 0)
else (
some 1))
set_option maxRecDepth 100000 in
theorem w_X1_in {l : Launch} {g : gNum} {L0 sz : Nat} {G : GH} {x : Int64} {y : Int64} {z : Int64} {out : Int32} (h : j_X1_in x y z = some out) : gMet l yX1_in (ws_ yX1_in cX1_in 6 (some .boolean)) g.1 clX L0 (gK g) [.long x, .long y, .long z] G sz 0 0 0 0 (fun v G2 n2 => v = some (.int out) ∧ G2 = G ∧ n2 = sz) := by
  refine gMet.of (own := RX1) (gK_ok g) (by decide +kernel) (Nat.le_of_ble_eq_true rfl) rfl ?_
  intro p e R s m args below meth c A Q ls H hF hQ hin hG hl
  have hx := hF.1.1
  have hb := hF.1.2.1
  have hts := hF.1.2.2.2.2
  have hl : lv_has ls 6 [(0, .long x), (2, .long y), (4, .long z)] := hl
  unfold j_X1_in at h
  refine lv_lload_n hx hb dX1_in_0 rfl (lv_at hl 0 rfl) ?_
  refine lv_lload_n hx hb dX1_in_1 rfl (lv_at hl 1 rfl) ?_
  refine W.lcmp hx hb dX1_in_2 ?_
  refine gb_if_lt hx hb dX1_in_3 (tgt := 17) (by decide) h (fun h => ?_) (fun h => ?_)
  · refine lv_iconst (v := 0) hx hb dX1_in_17 (by decide) ?_
    have h := Option.some.inj h
    subst h
    exact g_nret hQ hG (by decide) ⟨rfl, rfl, rfl⟩ (Nat.le_of_ble_eq_true rfl) (Nat.le_of_ble_eq_true rfl) dX1_in_18
  · refine lv_lload_n hx hb dX1_in_6 rfl (lv_at hl 0 rfl) ?_
    refine lv_lload hx hb dX1_in_7 (lv_at hl 2 rfl) ?_
    refine W.lcmp hx hb dX1_in_9 ?_
    refine gb_if_gt hx hb dX1_in_10 (tgt := 17) (by decide) h (fun h => ?_) (fun h => ?_)
    · refine lv_iconst (v := 0) hx hb dX1_in_17 (by decide) ?_
      have h := Option.some.inj h
      subst h
      exact g_nret hQ hG (by decide) ⟨rfl, rfl, rfl⟩ (Nat.le_of_ble_eq_true rfl) (Nat.le_of_ble_eq_true rfl) dX1_in_18
    · refine lv_iconst (v := 1) hx hb dX1_in_13 (by decide) ?_
      refine lv_goto hx hb dX1_in_14 (tgt := 18) (by decide) ?_
      have h := Option.some.inj h
      subst h
      exact g_nret hQ hG (by decide) ⟨rfl, rfl, rfl⟩ (Nat.le_of_ble_eq_true rfl) (Nat.le_of_ble_eq_true rfl) dX1_in_18
/-! J16_bitCount -/
def j_J16_bitCount (x : Int32) : Option (Int32) :=
nm (x - (((x.toUInt32 >>> ((1 : Int32).toUInt32 &&& Int32.toUInt32 31)).toInt32) &&& 1431655765)) fun (x1 : Int32) =>
nm ((x1 &&& 858993459) + (((x1.toUInt32 >>> ((2 : Int32).toUInt32 &&& Int32.toUInt32 31)).toInt32) &&& 858993459)) fun (x2 : Int32) =>
nm ((x2 + ((x2.toUInt32 >>> ((4 : Int32).toUInt32 &&& Int32.toUInt32 31)).toInt32)) &&& 252645135) fun (x3 : Int32) =>
nm (x3 + ((x3.toUInt32 >>> ((8 : Int32).toUInt32 &&& Int32.toUInt32 31)).toInt32)) fun (x4 : Int32) =>
nm (x4 + ((x4.toUInt32 >>> ((16 : Int32).toUInt32 &&& Int32.toUInt32 31)).toInt32)) fun (x5 : Int32) =>
some (x5 &&& 63)
set_option maxRecDepth 100000 in
theorem w_J16_bitCount {l : Launch} {g : gNum} {L0 sz : Nat} {G : GH} {x : Int32} {out : Int32} (h : j_J16_bitCount x = some out) : gMet l yJ16_bitCount (ws_ yJ16_bitCount cJ16_bitCount 1 (some .int)) g.1 clX L0 (gK g) [.int x] G sz 0 0 0 0 (fun v G2 n2 => v = some (.int out) ∧ G2 = G ∧ n2 = sz) := by
  refine gMet.of (own := RJ16) (gK_ok g) (by decide +kernel) (Nat.le_of_ble_eq_true rfl) rfl ?_
  intro p e R s m args below meth c A Q ls H hF hQ hin hG hl
  have hx := hF.1.1
  have hb := hF.1.2.1
  have hts := hF.1.2.2.2.2
  have hl : lv_has ls 1 [(0, .int x)] := hl
  unfold j_J16_bitCount at h
  refine lv_iload_n hx hb dJ16_bitCount_0 rfl (lv_at hl 0 rfl) ?_
  refine lv_iload_n hx hb dJ16_bitCount_1 rfl (lv_at hl 0 rfl) ?_
  refine lv_iconst (v := 1) hx hb dJ16_bitCount_2 (by decide) ?_
  refine lv_iushr hx hb dJ16_bitCount_3 rfl ?_
  refine lv_ldcw (v := 1431655765) hx hb hF.1.2.2.2.1 (hts _ q980) dJ16_bitCount_4 ?_
  refine lv_iand hx hb dJ16_bitCount_7 ?_
  refine lv_isub hx hb dJ16_bitCount_8 ?_
  refine gb_nm h (fun x1 h => ?_)
  refine lv_istore_n hx hb dJ16_bitCount_9 rfl hl (Nat.le_of_ble_eq_true rfl) (lv' := [(0, .int x1)]) rfl (fun ls hl => ?_)
  refine lv_iload_n hx hb dJ16_bitCount_10 rfl (lv_at hl 0 rfl) ?_
  refine lv_ldcw (v := 858993459) hx hb hF.1.2.2.2.1 (hts _ q981) dJ16_bitCount_11 ?_
  refine lv_iand hx hb dJ16_bitCount_14 ?_
  refine lv_iload_n hx hb dJ16_bitCount_15 rfl (lv_at hl 0 rfl) ?_
  refine lv_iconst (v := 2) hx hb dJ16_bitCount_16 (by decide) ?_
  refine lv_iushr hx hb dJ16_bitCount_17 rfl ?_
  refine lv_ldcw (v := 858993459) hx hb hF.1.2.2.2.1 (hts _ q981) dJ16_bitCount_18 ?_
  refine lv_iand hx hb dJ16_bitCount_21 ?_
  refine lv_iadd hx hb dJ16_bitCount_22 ?_
  refine gb_nm h (fun x2 h => ?_)
  refine lv_istore_n hx hb dJ16_bitCount_23 rfl hl (Nat.le_of_ble_eq_true rfl) (lv' := [(0, .int x2)]) rfl (fun ls hl => ?_)
  refine lv_iload_n hx hb dJ16_bitCount_24 rfl (lv_at hl 0 rfl) ?_
  refine lv_iload_n hx hb dJ16_bitCount_25 rfl (lv_at hl 0 rfl) ?_
  refine lv_iconst (v := 4) hx hb dJ16_bitCount_26 (by decide) ?_
  refine lv_iushr hx hb dJ16_bitCount_27 rfl ?_
  refine lv_iadd hx hb dJ16_bitCount_28 ?_
  refine lv_ldcw (v := 252645135) hx hb hF.1.2.2.2.1 (hts _ q982) dJ16_bitCount_29 ?_
  refine lv_iand hx hb dJ16_bitCount_32 ?_
  refine gb_nm h (fun x3 h => ?_)
  refine lv_istore_n hx hb dJ16_bitCount_33 rfl hl (Nat.le_of_ble_eq_true rfl) (lv' := [(0, .int x3)]) rfl (fun ls hl => ?_)
  refine lv_iload_n hx hb dJ16_bitCount_34 rfl (lv_at hl 0 rfl) ?_
  refine lv_iload_n hx hb dJ16_bitCount_35 rfl (lv_at hl 0 rfl) ?_
  refine lv_bipush (v := 8) hx hb dJ16_bitCount_36 (by decide) ?_
  refine lv_iushr hx hb dJ16_bitCount_38 rfl ?_
  refine lv_iadd hx hb dJ16_bitCount_39 ?_
  refine gb_nm h (fun x4 h => ?_)
  refine lv_istore_n hx hb dJ16_bitCount_40 rfl hl (Nat.le_of_ble_eq_true rfl) (lv' := [(0, .int x4)]) rfl (fun ls hl => ?_)
  refine lv_iload_n hx hb dJ16_bitCount_41 rfl (lv_at hl 0 rfl) ?_
  refine lv_iload_n hx hb dJ16_bitCount_42 rfl (lv_at hl 0 rfl) ?_
  refine lv_bipush (v := 16) hx hb dJ16_bitCount_43 (by decide) ?_
  refine lv_iushr hx hb dJ16_bitCount_45 rfl ?_
  refine lv_iadd hx hb dJ16_bitCount_46 ?_
  refine gb_nm h (fun x5 h => ?_)
  refine lv_istore_n hx hb dJ16_bitCount_47 rfl hl (Nat.le_of_ble_eq_true rfl) (lv' := [(0, .int x5)]) rfl (fun ls hl => ?_)
  refine lv_iload_n hx hb dJ16_bitCount_48 rfl (lv_at hl 0 rfl) ?_
  refine lv_bipush (v := 63) hx hb dJ16_bitCount_49 (by decide) ?_
  refine lv_iand hx hb dJ16_bitCount_51 ?_
  have h := Option.some.inj h
  subst h
  exact g_iret hQ hG ⟨rfl, rfl, rfl⟩ (Nat.le_of_ble_eq_true rfl) (Nat.le_of_ble_eq_true rfl) dJ16_bitCount_52
