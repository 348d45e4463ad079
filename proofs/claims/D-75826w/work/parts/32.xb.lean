/-! the component's world in pieces: what each write leaves of it -/
def XB (dA : Nat → ClassId) (L0 x : Nat) (su : SU) (sc : SC) (iv by_ : Nat → Int32) (cu : Nat) (Ks : List (BA × SS)) (Ls : List Nat) (sa : Nat → Option Nat) (G : GH) (bb hd he sl : Nat) (f : Nat → Option Nat) (h t : Int32) : Prop :=
  (G x = some (.inr (0, xV bb cu hd sl iv)) ∧ G bb = some (.inl (dA 1, 900, .inl by_)) ∧ G hd = some (.inr (13, [.ref he, .int h, .int t])) ∧ G he = some (aO dA 4 17 f) ∧ G sl = some (aO dA 5 2 sa)) ∧
  (L0 ≤ x ∧ L0 ≤ bb ∧ L0 ≤ hd ∧ L0 ≤ he ∧ L0 ≤ sl) ∧ dqR f h t Ls ∧ (∀ z ∈ Ks, kept dA L0 su sc G z) ∧ Ks.Pairwise (fun p q => bdis p.1 q.1) ∧ su.1 4 = sc.1 ∧ he ≠ su.1 5 ∧ he ≠ su.1 6 ∧ sl ≠ su.1 5 ∧ sl ≠ su.1 6 ∧ bb ≠ sc.1
theorem bdis.sw {p q : BA} (h : bdis p q) : bdis q p := by
  unfold bdis at *
  omega
/-- contents of no state, of no setup -/
def frm (dA : Nat → ClassId) (e : va_E) : Prop := (∀ b d u sc σ j, e ≠ sE dA b d u sc σ j) ∧ (∀ i fs, e = .inr (i, fs) → i ≠ 2 ∧ i ≠ 12 ∧ i ≠ 9 ∧ i ≠ 10) ∧ ∀ f, e ≠ .inl (dA 0, 12, .inl f)
section XB
variable {dA : Nat → ClassId} {L0 x a : Nat} {su : SU} {sc : SC} {iv by_ iv' by' : Nat → Int32} {cu cu' : Nat} {Ks Ks' : List (BA × SS)} {Ls Ls' : List Nat} {sa sa' : Nat → Option Nat} {G G1 : GH} {bb hd he sl : Nat} {f f' : Nat → Option Nat} {h t h' t' : Int32} {e e0 : va_E} {z : BA × SS}
theorem frm_x {i : Nat} {fs : List Value} (hi : i = 0 ∨ i = 13) : frm dA (.inr (i, fs)) := ⟨fun b d u sc σ => ne_x hi, fun j fs q => by
  have : i = j := by injection q with q; injection q
  omega, fun f q => by cases q⟩
theorem frm_bb {f : Nat → Int32} : frm dA (.inl (dA 1, 900, .inl f)) := ⟨fun b d u sc σ => ne_bb, fun j fs q => by (cases q), fun f q => by
  simp at q⟩
theorem frm_aO {t n : Nat} {f : Nat → Option Nat} : frm dA (aO dA t n f) := ⟨fun b d u sc σ => ne_aO, fun j fs q => by (cases q), fun f q => by
  unfold aO at q
  simp at q⟩
theorem suAt.put {b d q : Nat} {e1 : va_E} (hq : suAt b d G q e1) (hne : q ≠ a) : suAt b d (gU G a e) q e1 := ⟨by rw [gU_n hne]; exact hq.1, hq.2⟩
theorem kept.put (hk : kept dA L0 su sc G z) (ha : G a = some e0) (hf : frm dA e0) (h5 : a ≠ su.1 5) (h6 : a ≠ su.1 6) (hs : a ≠ sc.1) : kept dA L0 su sc (gU G a e) z := by
  obtain ⟨hL, hb, ho, hc⟩ := hk
  have nb : ∀ q j, G q = some (sE dA z.1.1 z.1.2 (su.1 0) sc z.2 j) → q ≠ a := fun q j hq hn => hf.1 _ _ _ _ _ j (by rw [hn, ha] at hq; exact Option.some.inj hq)
  have ni : ∀ q i fs, (i = 2 ∨ i = 12 ∨ i = 9 ∨ i = 10) → G q = some (.inr (i, fs)) → q ≠ a := fun q i fs hi hq hn => by
    rw [hn, ha] at hq
    have := hf.2.1 i fs (Option.some.inj hq)
    omega
  have nn : ∀ q g, G q = some (.inl (dA 0, 12, .inl g)) → q ≠ a := fun q g hq hn => hf.2.2 g (by rw [hn, ha] at hq; exact Option.some.inj hq)
  obtain ⟨h1, h2, h3, h4, h5', h6', h7, h8, h9⟩ := ho
  exact ⟨hL, ⟨by rw [gU_n (nb _ 0 hb.1)]; exact hb.1, fun j hj => by rw [gU_n (nb _ j (hb.2 j hj))]; exact hb.2 j hj⟩,
    ⟨h1.put (ni _ _ _ (by omega) h1.1), h2.put (ni _ _ _ (by omega) h2.1), h3.put (ni _ _ _ (by omega) h3.1), h4.put (nn _ _ h4.1), h5'.put h5.symm, h6'.put h6.symm, fun k hk => (h7 k hk).put (ni _ _ _ (by omega) (h7 k hk).1), fun k hk => (h8 k hk).put (ni _ _ _ (by omega) (h8 k hk).1), h9⟩, hc.put hs.symm⟩
/-- an object is no setup's array, no script -/
theorem kept.ne (hk : kept dA L0 su sc G z) {i : Nat} {fs : List Value} (ha : G a = some (.inr (i, fs))) : a ≠ su.1 5 ∧ a ≠ su.1 6 ∧ a ≠ sc.1 := by
  obtain ⟨hL, hb, ho, hc⟩ := hk
  refine ⟨fun q => ?_, fun q => ?_, fun q => ?_⟩
  · have := ho.2.2.2.2.1.1
    rw [← q, ha] at this
    cases this
  · have := ho.2.2.2.2.2.1.1
    rw [← q, ha] at this
    cases this
  · have := hc.1
    rw [← q, ha] at this
    cases this
theorem aO_len {t n t2 n2 : Nat} {f f2 : Nat → Option Nat} (q : aO dA t n f = aO dA t2 n2 f2) : n = n2 := by
  unfold aO at q
  injection q with q
  injection q with q1 q2
  injection q2
theorem aO_bb {t n : Nat} {f : Nat → Option Nat} {g : Nat → Int32} (q : aO dA t n f = .inl (dA 1, 900, .inl g)) : False := by
  unfold aO at q
  simp at q
theorem ne_at {q1 q2 : Nat} {e1 e2 : va_E} (h1 : G q1 = some e1) (h2 : G q2 = some e2) (hne : e1 ≠ e2) : q1 ≠ q2 := fun q => hne (by rw [q, h2] at h1; exact (Option.some.inj h1).symm)
theorem XB.px (o : XB dA L0 x su sc iv by_ cu Ks Ls sa G bb hd he sl f h t) : XB dA L0 x su sc iv' by_ cu' Ks Ls sa (gU G x (.inr (0, xV bb cu' hd sl iv'))) bb hd he sl f h t := by
  obtain ⟨⟨a1, a2, a3, a4, a5⟩, hL, hq, hk, hp, h4⟩ := o
  refine ⟨⟨gU_s, by rw [gU_n (ne_at a2 a1 (fun q => by cases q))]; exact a2, by rw [gU_n (ne_at a3 a1 (fun q => by simp at q))]; exact a3, by rw [gU_n (ne_at a4 a1 (fun q => by unfold aO at q; cases q))]; exact a4, by rw [gU_n (ne_at a5 a1 (fun q => by unfold aO at q; cases q))]; exact a5⟩, hL, hq, fun z hz => (hk z hz).put a1 (frm_x (Or.inl rfl)) ((hk z hz).ne a1).1 ((hk z hz).ne a1).2.1 ((hk z hz).ne a1).2.2, hp, h4⟩
theorem XB.pb (o : XB dA L0 x su sc iv by_ cu Ks Ls sa G bb hd he sl f h t) : XB dA L0 x su sc iv by' cu Ks Ls sa (gU G bb (.inl (dA 1, 900, .inl by'))) bb hd he sl f h t := by
  obtain ⟨⟨a1, a2, a3, a4, a5⟩, hL, hq, hk, hp, h4⟩ := o
  refine ⟨⟨by rw [gU_n (ne_at a1 a2 (fun q => by cases q))]; exact a1, gU_s, by rw [gU_n (ne_at a3 a2 (fun q => by cases q))]; exact a3, by rw [gU_n (ne_at a4 a2 (fun q => aO_bb q))]; exact a4, by rw [gU_n (ne_at a5 a2 (fun q => aO_bb q))]; exact a5⟩, hL, hq, fun z hz => (hk z hz).put a2 frm_bb (fun q => ?_) (fun q => ?_) h4.2.2.2.2.2, hp, h4⟩
  · have := (hk z hz).2.2.1.2.2.2.2.1.1
    rw [← q, a2] at this
    simp at this
  · have := (hk z hz).2.2.1.2.2.2.2.2.1.1
    rw [← q, a2] at this
    simp at this
theorem kept.neA (hk : kept dA L0 su sc G z) {i n : Nat} {g : Nat → Option Nat} (ha : G a = some (aO dA i n g)) : a ≠ sc.1 := fun q => by
  have := hk.2.2.2.1
  rw [← q, ha] at this
  unfold aO scE at this
  simp at this
theorem XB.pdq (o : XB dA L0 x su sc iv by_ cu Ks Ls sa G bb hd he sl f h t) (q : dqR f' h' t' Ls') : XB dA L0 x su sc iv by_ cu Ks Ls' sa (gU (gU G hd (.inr (13, [.ref he, .int h', .int t']))) he (aO dA 4 17 f')) bb hd he sl f' h' t' := by
  obtain ⟨⟨a1, a2, a3, a4, a5⟩, hL, hq, hk, hp, h4⟩ := o
  have n43 : he ≠ hd := ne_at a4 a3 (fun q => by unfold aO at q; cases q)
  refine ⟨⟨by rw [gU_n (ne_at a1 a4 (fun q => by unfold aO at q; cases q)), gU_n (ne_at a1 a3 (fun q => by simp at q))]; exact a1, by rw [gU_n (ne_at a2 a4 (fun q => aO_bb q.symm)), gU_n (ne_at a2 a3 (fun q => by cases q))]; exact a2, by rw [gU_n n43.symm, gU_s], gU_s, by rw [gU_n (ne_at a5 a4 (fun q => absurd (aO_len q) (by decide))), gU_n (ne_at a5 a3 (fun q => by unfold aO at q; cases q))]; exact a5⟩, hL, q, fun z hz => ?_, hp, h4⟩
  have k1 := (hk z hz).put (e := .inr (13, [.ref he, .int h', .int t'])) a3 (frm_x (Or.inr rfl)) ((hk z hz).ne a3).1 ((hk z hz).ne a3).2.1 ((hk z hz).ne a3).2.2
  exact k1.put (e0 := aO dA 4 17 f) (by rw [gU_n n43]; exact a4) frm_aO h4.2.1 h4.2.2.1 ((hk z hz).neA a4)
theorem XB.ps (o : XB dA L0 x su sc iv by_ cu Ks Ls sa G bb hd he sl f h t) : XB dA L0 x su sc iv by_ cu Ks Ls sa' (gU G sl (aO dA 5 2 sa')) bb hd he sl f h t := by
  obtain ⟨⟨a1, a2, a3, a4, a5⟩, hL, hq, hk, hp, h4⟩ := o
  refine ⟨⟨by rw [gU_n (ne_at a1 a5 (fun q => by unfold aO at q; cases q))]; exact a1, by rw [gU_n (ne_at a2 a5 (fun q => aO_bb q.symm))]; exact a2, by rw [gU_n (ne_at a3 a5 (fun q => by unfold aO at q; cases q))]; exact a3, by rw [gU_n (ne_at a4 a5 (fun q => absurd (aO_len q) (by decide)))]; exact a4, gU_s⟩, hL, hq, fun z hz => (hk z hz).put a5 frm_aO h4.2.2.2.1 h4.2.2.2.2.1 ((hk z hz).neA a5), hp, h4⟩
theorem XB.new (o : XB dA L0 x su sc iv by_ cu Ks Ls sa G bb hd he sl f h t) (hx : gx G G1) (hz : kept dA L0 su sc G1 z) (hd9 : ∀ y ∈ Ks, bdis z.1 y.1) : XB dA L0 x su sc iv by_ cu (z :: Ks) Ls sa G1 bb hd he sl f h t := by
  obtain ⟨⟨a1, a2, a3, a4, a5⟩, hL, hq, hk, hp, h4⟩ := o
  refine ⟨⟨hx _ _ a1, hx _ _ a2, hx _ _ a3, hx _ _ a4, hx _ _ a5⟩, hL, hq, fun y hy => ?_, List.pairwise_cons.mpr ⟨hd9, hp⟩, h4⟩
  rcases List.mem_cons.mp hy with rfl | hy
  · exact hz
  · exact (hk y hy).ext hx
theorem XB.sub (o : XB dA L0 x su sc iv by_ cu Ks Ls sa G bb hd he sl f h t) (h1 : Ks'.Sublist Ks) : XB dA L0 x su sc iv by_ cu Ks' Ls sa G bb hd he sl f h t := by
  obtain ⟨ha, hL, hq, hk, hp, h4⟩ := o
  exact ⟨ha, hL, hq, fun z hz => hk z (h1.subset hz), hp.sublist h1, h4⟩
theorem XB.perm (o : XB dA L0 x su sc iv by_ cu Ks Ls sa G bb hd he sl f h t) (h1 : Ks.Perm Ks') : XB dA L0 x su sc iv by_ cu Ks' Ls sa G bb hd he sl f h t := by
  obtain ⟨ha, hL, hq, hk, hp, h4⟩ := o
  exact ⟨ha, hL, hq, fun z hz => hk z (h1.mem_iff.mpr hz), h1.pairwise hp (fun p => bdis.sw p), h4⟩
theorem XO.toB {κ : XS} {b d : Nat} {Bs : List (BA × SS)} {S : Nat → Option (BA × SS)} (o : XO dA L0 x κ b d G bb hd he sl f h t Bs S) : XB dA L0 x κ.1 κ.2.1 κ.2.2.2.1 κ.2.2.2.2.1 b (((b, d), κ.2.2.1) :: (Bs ++ slR S)) (Bs.map (·.1.1)) (fun i => (S i).map (·.1.1)) G bb hd he sl f h t := by
  obtain ⟨ha, hL, hq, hh, hs, hk, hz, hp, h4⟩ := o
  refine ⟨ha, hL, hq, fun y hy => ?_, List.pairwise_cons.mpr ⟨fun z q => (hz z q).2, hp⟩, h4⟩
  rcases List.mem_cons.mp hy with rfl | hy
  · exact hk
  · exact (hz y hy).1
theorem XB.toO {σ : SS} {b d : Nat} {Bs : List (BA × SS)} {S : Nat → Option (BA × SS)} {hi : List SS} {so : Nat → Option SS} (o : XB dA L0 x su sc iv by_ b (((b, d), σ) :: (Bs ++ slR S)) (Bs.map (·.1.1)) (fun i => (S i).map (·.1.1)) G bb hd he sl f h t) (hh : hi = Bs.map (·.2)) (hs : ∀ i, so i = (S i).map (·.2)) : XO dA L0 x (su, sc, σ, iv, by_, hi, so) b d G bb hd he sl f h t Bs S := by
  obtain ⟨ha, hL, hq, hk, hp, h4⟩ := o
  rw [List.pairwise_cons] at hp
  exact ⟨ha, hL, hq, hh, hs, hk _ List.mem_cons_self, fun z hz => ⟨hk z (List.mem_cons_of_mem _ hz), hp.1 z hz⟩, hp.2, h4⟩
end XB
