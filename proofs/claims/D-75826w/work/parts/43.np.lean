/-! loops of passes: sentIn, peakIn, run -/
/-- passes until i is p0 -/
def c_np (su : SU) (sc : SC) (p0 : Int32) : Nat → Int32 → SS → Option SS
  | 0, _, _ => none
  | n + 1, i, σ => if p0 ≤ i then some σ else ob1 (c_X2_passes su sc σ) fun σ' => nm (i + 1) fun i' => c_np su sc p0 n i' σ'
/-- .. with the greatest meter -/
def c_npm (su : SU) (sc : SC) (p0 : Int32) : Nat → Int32 → Int32 → SS → Option Int32
  | 0, _, _, _ => none
  | n + 1, i, q, σ => if p0 ≤ i then some q else ob1 (c_X2_passes su sc σ) fun σ' => nm (if q < σ'.1 24 then σ'.1 24 else q) fun q' => nm (i + 1) fun i' => c_npm su sc p0 n i' q' σ'
def c_X1_sentIn (su : SU) (sc : SC) (σ : SS) (p0 p1 : Int32) : Option (Nat ⊕ Int32) :=
  if (1 ≤ p0.toInt ∧ p0.toInt ≤ 500) ∧ 1 ≤ p1.toInt ∧ p1.toInt ≤ 20 then
  gd (σ.1 25 = 0 ∨ σ.1 25 = 1) <| ob1 (c_np su sc p0 502 0 (S_sf (cpS σ) 18 p1)) fun σ2 => ob1 (j_X5_sum 0 (sL 16) (σ2.2 16)) fun s2 => ob1 (j_X5_sum 0 (sL 16) (σ.2 16)) fun s1 => some (Sum.inr (s2 - s1))
  else some (Sum.inl 1)
def c_X1_peakIn (su : SU) (sc : SC) (σ : SS) (p0 p1 : Int32) : Option (Nat ⊕ Int32) :=
  if (1 ≤ p0.toInt ∧ p0.toInt ≤ 500) ∧ 1 ≤ p1.toInt ∧ p1.toInt ≤ 9999 then
  gd (σ.1 25 = 0 ∨ σ.1 25 = 1) <| ob1 (c_npm su sc p0 502 0 0 (S_sf (cpS σ) 17 p1)) fun q => some (Sum.inr q)
  else some (Sum.inl 1)
def c_X1_run (su : SU) (sc : SC) (σ : SS) (p0 : Int32) : Option (Nat ⊕ (Int32 × SS)) :=
  if 1 ≤ p0.toInt ∧ p0.toInt ≤ 200 then
  if 5000 < σ.1 19 + p0 then some (Sum.inl 2) else
  gd (σ.1 25 = 0 ∨ σ.1 25 = 1) <| nm (cpS σ) fun σ1 => ob1 (c_np su sc p0 502 0 σ1) fun σ2 => ob1 (c_X2_inState su σ2 3) fun v => ob1 (j_J16_bitCount v) fun r => some (Sum.inr (r, σ2))
  else some (Sum.inl 1)
section NP
variable {p : Program} {l : Launch} {e : Env} {R : Room} {s : State} {m : MethodId} {args : Array Value} {below : List Frame} {meth : Method} {c : Code} {H : Heap} {locs : List Loc} {cells slots : Nat} {Q : State → Prop}
variable {cc : ByteArray} {pc : Nat} {ls : Array Slot} {rest : List Value} {A : Nat → Prop} {L0 n nL : Nat} {g : gNum} {own : String} {rm : Room} {γ : Type} {o : γ} {lv : List (Nat × Value)}
variable {b d x sz : Nat} {sc : SC} {su : SU} {σ : SS} {G0 G : GH} {p0 p1 : Int32} {index : Nat} {iv by_ : Nat → Int32} {hi : List SS} {so : Nat → Option SS}
theorem kx_inV {v0 v1 v2 : Int64} {v : Int32} (hv : j_X1_in v0 v1 v2 = some v) (hq : (Cond.methodLink own index yX1_in) ∈ lw_all) (hF : gXK p m c cc nL s args own g A R rm) (hG : gJK g L0 A s.heap G n H locs) (hl : lv_has ls nL lv) (r1 : 0 + 1 ≤ rm.frames) (r2 : 8 + (6 + 11) + 0 ≤ rm.locals) (hc : cells ≤ rm.cells ∧ slots ≤ rm.slots) (hW : (rest.map fun v => v.category).sum ≤ 8) (hdg : decode cc pc = .ok (.invokestatic index, 3))
    (kk : ∀ (H1 : Heap) (locs1 : List Loc), gJK g L0 A s.heap G n H1 locs1 → W p l e R s m args below meth c H1 locs1 cells slots Q (F0 m (pc + 3) ls (.int v :: rest))) : W p l e R s m args below meth c H locs cells slots Q (F0 m pc ls (.long v2 :: .long v1 :: .long v0 :: rest)) := by
  refine kx_in (f := fun r => if r = v then some () else none) (o := ()) hq hF hG hl r1 r2 (by rw [hv]; exact if_pos rfl) hc hW hdg (fun r H1 locs1 h hG => ?_)
  by_cases hr : r = v
  · subst hr
    exact kk H1 locs1 hG
  · rw [if_neg hr] at h
    cases h
noncomputable def if_σ (z σ2 : SS) : Option Unit := @ite (Option Unit) (z = σ2) (Classical.propDecidable _) (some ()) none
theorem if_σ_s {z : SS} : if_σ z z = some () := by
  unfold if_σ
  exact if_pos rfl
theorem if_σ_e {z y : SS} (h : if_σ z y = some ()) : z = y := by
  unfold if_σ at h
  split at h
  next hc => exact hc
  next => cases h
set_option maxRecDepth 100000 in
theorem w_X1_sentIn {l : Launch} (hst : l.stackTraces = false) (hX : XW g.2.1 L0 x (su, sc, σ, iv, by_, hi, so) b d G) {out : Nat ⊕ Int32} (h : c_X1_sentIn su sc σ p0 p1 = some out) : gMetX l yX1_sentIn (ws_ yX1_sentIn cX1_sentIn 5 (some .int)) g.1 clX L0 (gK g) [.ref x, .int p0, .int p1] G sz 12 300 1519 9317 (fun v G' n => ∃ r, out = .inr r ∧ v = some (.int r) ∧ gx G G') (fun E _ G' => ∃ k, out = .inl k ∧ E = exN k ∧ gx G G') := by
  refine gMetX.of (own := RX1) (gK_ok g) (by decide +kernel) (Nat.le_of_ble_eq_true rfl) rfl ?_
  intro p e R s m args below meth c A Q ls H hF hQ hnt hG hl
  have hx := hF.1.1
  have hb := hF.1.2.1
  have hts := hF.1.2.2.2.2
  obtain ⟨Q', hQ', hret⟩ := gx_ret hQ
  have hl : lv_has ls 5 [(0, .ref x), (1, .int p0), (2, .int p1)] := hl
  obtain ⟨bb, hd, he, sl, f, h9, t9, Bs, S, o⟩ := hX
  obtain ⟨hid, hL0, hsu, hsc, hfx, hfb, hfh, hfe, hfs⟩ := o.use
  have hlt : ∀ a e, G a = some e → a < sz := fun a e q => hG.lt q
  have hbn : b < sz := hlt _ _ o.2.2.2.2.2.1.2.1.1
  have hLs : L0 ≤ sz := Nat.le_trans hL0 (Nat.le_of_lt hbn)
  unfold c_X1_sentIn at h
  refine lv_iload_n hx hb dX1_sentIn_0 rfl (lv_at hl 1 rfl) ?_
  refine lv_i2l hx hb dX1_sentIn_1 rfl ?_
  refine lv_lconst (v := 1) hx hb dX1_sentIn_2 (by decide) ?_
  refine lv_ldc2 (v := 500) hx hb hF.1.2.2.2.1 (hts _ q1722) dX1_sentIn_3 ?_
  refine kx_inV in_int q1029 hF hG hl (Nat.le_of_ble_eq_true rfl) (Nat.le_of_ble_eq_true rfl) ⟨Nat.le_of_ble_eq_true rfl, Nat.le_of_ble_eq_true rfl⟩ (Nat.le_of_ble_eq_true rfl) dX1_sentIn_6 (fun H locs hG => ?_)
  have bad : ∀ (H : Heap) (locs : List Loc), ¬ ((1 ≤ p0.toInt ∧ p0.toInt ≤ 500) ∧ 1 ≤ p1.toInt ∧ p1.toInt ≤ 20) → gJK g L0 A s.heap G sz H locs → W p l e R s m args below meth c H locs 0 0 Q (F0 m 28 ls []) := by
    intro H locs hn hG
    rw [if_neg hn] at h
    refine lv_iconst (v := 0) hx hb dX1_sentIn_28 (by decide) ?_
    exact kx_chk1 (P := some 0) (P2 := none) (o := 0) q1452 hst hF hQ hnt hG hl (Nat.le_of_ble_eq_true rfl) (Nat.le_of_ble_eq_true rfl) rfl ⟨Nat.le_of_ble_eq_true rfl, Nat.le_of_ble_eq_true rfl⟩ ⟨Nat.le_of_ble_eq_true rfl, Nat.le_of_ble_eq_true rfl⟩ (Nat.le_of_ble_eq_true rfl) dX1_sentIn_29 (fun _ q => ⟨1, (Option.some.inj h).symm, rfl, gx_rfl⟩) (fun h => by cases h)
  refine lv_if_eq hx hb dX1_sentIn_9 (tgt := 28) (by decide) (fun h1 => ?_) (fun h1 => ?_)
  · refine bad H locs (fun q => ?_) hG
    rw [if_pos (show (1 : Int64).toInt ≤ p0.toInt ∧ p0.toInt ≤ (500 : Int64).toInt from q.1)] at h1
    exact absurd h1 (by decide)
  refine lv_iload_n hx hb dX1_sentIn_12 rfl (lv_at hl 2 rfl) ?_
  refine lv_i2l hx hb dX1_sentIn_13 rfl ?_
  refine lv_lconst (v := 1) hx hb dX1_sentIn_14 (by decide) ?_
  refine lv_ldc2 (v := 20) hx hb hF.1.2.2.2.1 (hts _ q1732) dX1_sentIn_15 ?_
  refine kx_inV in_int q1029 hF hG hl (Nat.le_of_ble_eq_true rfl) (Nat.le_of_ble_eq_true rfl) ⟨Nat.le_of_ble_eq_true rfl, Nat.le_of_ble_eq_true rfl⟩ (Nat.le_of_ble_eq_true rfl) dX1_sentIn_18 (fun H locs hG => ?_)
  refine lv_if_eq hx hb dX1_sentIn_21 (tgt := 28) (by decide) (fun h2 => ?_) (fun h2 => ?_)
  · refine bad H locs (fun q => ?_) hG
    rw [if_pos (show (1 : Int64).toInt ≤ p1.toInt ∧ p1.toInt ≤ (20 : Int64).toInt from q.2)] at h2
    exact absurd h2 (by decide)
  have g1 : 1 ≤ p0.toInt ∧ p0.toInt ≤ 500 := by
    by_cases hc : (1 : Int64).toInt ≤ p0.toInt ∧ p0.toInt ≤ (500 : Int64).toInt
    · exact hc
    · rw [if_neg hc] at h1
      exact absurd rfl h1
  have g2 : 1 ≤ p1.toInt ∧ p1.toInt ≤ 20 := by
    by_cases hc : (1 : Int64).toInt ≤ p1.toInt ∧ p1.toInt ≤ (20 : Int64).toInt
    · exact hc
    · rw [if_neg hc] at h2
      exact absurd rfl h2
  rw [if_pos ⟨g1, g2⟩] at h
  refine lv_iconst (v := 1) hx hb dX1_sentIn_24 (by decide) ?_
  refine lv_goto hx hb dX1_sentIn_25 (tgt := 29) (by decide) ?_
  refine kx_chk1 (P := none) (P2 := some 0) (o := 0) q1452 hst hF hQ hnt hG hl (Nat.le_of_ble_eq_true rfl) (Nat.le_of_ble_eq_true rfl) rfl ⟨Nat.le_of_ble_eq_true rfl, Nat.le_of_ble_eq_true rfl⟩ ⟨Nat.le_of_ble_eq_true rfl, Nat.le_of_ble_eq_true rfl⟩ (Nat.le_of_ble_eq_true rfl) dX1_sentIn_29 (fun h => by cases h) (fun _ H locs hG => ?_)
  refine lv_aload_n hx hb dX1_sentIn_32 rfl (lv_at hl 0 rfl) ?_
  refine g_get hF hG hfx.1 (C := RX1) (T := TX1) (N := 7) rfl in_X1 4 (by decide) q754 (fun _ h => h) (v := .ref b) rfl dX1_sentIn_33 ?_
  obtain ⟨hz, h⟩ := gd_e h
  refine kx_copy q953 hF hG hl o.2.2.2.2.2.1 o.2.2.2.2.2.2.2.2.1 hz (Nat.le_of_ble_eq_true rfl) (Nat.le_of_ble_eq_true rfl) ⟨Nat.le_of_ble_eq_true rfl, Nat.le_of_ble_eq_true rfl⟩ (Nat.le_of_ble_eq_true rfl) dX1_sentIn_36 (fun H locs hG => ?_)
  refine lv_astore_n hx hb dX1_sentIn_39 rfl hl (Nat.le_of_ble_eq_true rfl) (lv' := [(3, .ref sz), (0, .ref x), (1, .int p0), (2, .int p1)]) rfl (fun ls hl => ?_)
  have hsu2 := hsu.lo hlt
  have hsc2 : suAt sz 0 G sc.1 (.inl (g.2.1 0, sc.2.1, .inl sc.2.2)) := hsc.lo hlt
  refine lv_aload_n hx hb dX1_sentIn_40 rfl (lv_at hl 0 rfl) ?_
  refine lv_iload_n hx hb dX1_sentIn_41 rfl (lv_at hl 3 rfl) ?_
  refine g_putN hF hG sG_0 hLs (C := RX2) (T := TX2) (N := 26) rfl in_X2 tyX2 tyX2_ok nmX2 18 (by decide) q621 (fun x h => h) rfl (by first | rfl | decide) rfl (by show 18 < 26; decide) dX1_sentIn_42 (fun H locs hG => ?_)
  rw [sG_sf0 (by decide)] at hG
  have L : ∀ (n k : Nat) (σ1 : SS) (G1 : GH) (nz : Nat) (H : Heap) (locs : List Loc) (ls : Array Slot), n + k = 502 → k ≤ 500 → (ob1 (c_np su sc p0 n (nI k) σ1) fun σ2 => ob1 (j_X5_sum 0 (sL 16) (σ2.2 16)) fun s2 => ob1 (j_X5_sum 0 (sL 16) (σ.2 16)) fun s1 => some (Sum.inr (s2 - s1))) = some out → gx G G1 → gJK g L0 A s.heap (sG g.2.1 sz 0 (su.1 0) sc σ1 G1) nz H locs → lv_has ls 5 [(4, .int (nI k)), (3, .ref sz), (0, .ref x), (1, .int p0)] → W p l e R s m args below meth c H locs (19 + 3 * k) (317 + 18 * k) Q (F0 m 48 ls []) := by
    intro n
    induction n with
    | zero => intro k σ1 G1 nz H locs ls hn hk h; cases h
    | succ n ih =>
      intro k σ1 G1 nz H locs ls hn hk h hx1 hG hl
      unfold c_np at h
      refine lv_iload hx hb dX1_sentIn_48 (lv_at hl 0 rfl) ?_
      refine lv_iload_n hx hb dX1_sentIn_50 rfl (lv_at hl 3 rfl) ?_
      by_cases hge : p0 ≤ nI k
      · rw [if_pos hge] at h
        have h : (ob1 (j_X5_sum 0 (sL 16) (σ1.2 16)) fun s2 => ob1 (j_X5_sum 0 (sL 16) (σ.2 16)) fun s1 => some (Sum.inr (s2 - s1))) = some out := h
        refine lv_icmp_ge hx hb dX1_sentIn_51 (tgt := 64) (by decide) (fun _ => ?_) (fun q => absurd hge q)
        have hroom : 19 + 3 * k ≤ 1519 ∧ 317 + 18 * k ≤ 9317 := by omega
        refine lv_aload_n hx hb dX1_sentIn_64 rfl (lv_at hl 1 rfl) ?_
        refine g_getN hF hG sG_0 (C := RX2) (T := TX2) (N := 26) rfl in_X2 9 (by decide) q607 (fun _ h => h) (v := .ref (sz + 0 + 14)) rfl dX1_sentIn_65 ?_
        refine g_getN hF hG sG_14 (C := RX5) (T := TX5) (N := 5) rfl in_X5 1 (by decide) q570 (fun _ h => h) (v := .ref (sz + 0 + 16)) rfl dX1_sentIn_68 ?_
        refine ks_sum q1490 hF hG hl (Nat.le_of_ble_eq_true rfl) (Nat.le_of_ble_eq_true rfl) (j := 16) (by decide) h hroom (Nat.le_of_ble_eq_true rfl) dX1_sentIn_71 (fun v H locs h hG => ?_)
        have hG := hG.weak (gx_two hlt hx1)
        have hG : gJK g L0 A s.heap (sG g.2.1 b d (su.1 0) sc σ G) nz H locs := by rw [hid]; exact hG
        refine lv_aload_n hx hb dX1_sentIn_74 rfl (lv_at hl 2 rfl) ?_
        refine g_get hF hG hfx.rd (C := RX1) (T := TX1) (N := 7) rfl in_X1 4 (by decide) q754 (fun _ h => h) (v := .ref b) rfl dX1_sentIn_75 ?_
        refine g_getN hF hG sG_0 (C := RX2) (T := TX2) (N := 26) rfl in_X2 9 (by decide) q607 (fun _ h => h) (v := .ref (b + d + 14)) rfl dX1_sentIn_78 ?_
        refine g_getN hF hG sG_14 (C := RX5) (T := TX5) (N := 5) rfl in_X5 1 (by decide) q570 (fun _ h => h) (v := .ref (b + d + 16)) rfl dX1_sentIn_81 ?_
        refine ks_sum q1490 hF hG hl (Nat.le_of_ble_eq_true rfl) (Nat.le_of_ble_eq_true rfl) (j := 16) (by decide) h hroom (Nat.le_of_ble_eq_true rfl) dX1_sentIn_84 (fun v2 H locs h hG => ?_)
        refine lv_isub hx hb dX1_sentIn_87 ?_
        rw [hid] at hG
        exact hret _ _ _ _ _ (g_iret hQ' hG ⟨_, (Option.some.inj h).symm, rfl, gx_rfl⟩ hroom.1 hroom.2 dX1_sentIn_88)
      · rw [if_neg hge] at h
        have hkp : (k : Int) < p0.toInt := by
          refine Int.not_le.mp fun q => hge ?_
          rw [Int32.le_iff_toInt_le, nI_toInt (by omega)]
          exact q
        have hroom : 19 + 3 * k ≤ 1519 ∧ 317 + 18 * k ≤ 9317 := by omega
        have hroom3 : 19 + 3 * k + 3 ≤ 1519 ∧ 317 + 18 * k + 18 ≤ 9317 := by omega
        refine lv_icmp_ge hx hb dX1_sentIn_51 (tgt := 64) (by decide) (fun q => absurd q hge) (fun _ => ?_)
        refine lv_aload_n hx hb dX1_sentIn_54 rfl (lv_at hl 1 rfl) ?_
        obtain ⟨σ2, hr, h⟩ : ∃ σ2, c_X2_passes su sc σ1 = some σ2 ∧ (ob1 (c_np su sc p0 n (nI (k + 1)) σ2) fun σ2 => ob1 (j_X5_sum 0 (sL 16) (σ2.2 16)) fun s2 => ob1 (j_X5_sum 0 (sL 16) (σ.2 16)) fun s1 => some (Sum.inr (s2 - s1))) = some out := by
          cases hr : c_X2_passes su sc σ1 with
          | none => rw [hr] at h; cases h
          | some σ2 =>
            rw [hr] at h
            exact ⟨σ2, rfl, by rw [← nI_1]; exact h⟩
        refine k_X2_passes (f := fun z => if_σ z σ2) (o := ()) q1592 hF hLs (hsu2.ext hx1) (hsc2.ext hx1) hG hl (Nat.le_of_ble_eq_true rfl) (Nat.le_of_ble_eq_true rfl) (by rw [hr]; exact if_σ_s) hroom3 (Nat.le_of_ble_eq_true rfl) dX1_sentIn_55 (fun z G2 n2 H locs hx2 hz hG => ?_)
        have hzz := if_σ_e hz
        subst hzz
        refine gb_iinc (k' := 1) (f := fun y => if y = nI (k + 1) then some () else none) (o := ()) hx hb dX1_sentIn_58 hl (k := 0) rfl (by decide) (Nat.le_of_ble_eq_true rfl) (by
          show (if nI k + 1 = nI (k + 1) then some () else none) = some ()
          rw [if_pos (nI_1 k)]) (fun y ls hy hl => ?_)
        have hy2 : y = nI (k + 1) := by
          by_cases hc : y = nI (k + 1)
          · exact hc
          · rw [if_neg hc] at hy; cases hy
        subst hy2
        have hl : lv_has ls 5 [(4, .int (nI (k + 1))), (3, .ref sz), (0, .ref x), (1, .int p0)] := hl
        refine lv_goto hx hb dX1_sentIn_61 (tgt := 48) (by decide) ?_
        exact ih (k + 1) z G2 n2 H locs ls (by omega) (by omega) h (hx1.tr hx2) hG hl
  refine lv_iconst (v := 0) hx hb dX1_sentIn_45 (by decide) ?_
  refine lv_istore hx hb dX1_sentIn_46 hl (Nat.le_of_ble_eq_true rfl) (lv' := [(4, .int 0), (3, .ref sz), (0, .ref x), (1, .int p0), (2, .int p1)]) rfl (fun ls hl => ?_)
  exact L 502 0 _ G _ H locs ls rfl (by decide) h gx_rfl hG (lv_sub hl [0, 1, 2, 3] rfl)
set_option maxRecDepth 100000 in
theorem w_X1_peakIn {l : Launch} (hst : l.stackTraces = false) (hX : XW g.2.1 L0 x (su, sc, σ, iv, by_, hi, so) b d G) {out : Nat ⊕ Int32} (h : c_X1_peakIn su sc σ p0 p1 = some out) : gMetX l yX1_peakIn (ws_ yX1_peakIn cX1_peakIn 6 (some .int)) g.1 clX L0 (gK g) [.ref x, .int p0, .int p1] G sz 12 300 1519 9317 (fun v G' n => ∃ r, out = .inr r ∧ v = some (.int r) ∧ gx G G') (fun E _ G' => ∃ k, out = .inl k ∧ E = exN k ∧ gx G G') := by
  refine gMetX.of (own := RX1) (gK_ok g) (by decide +kernel) (Nat.le_of_ble_eq_true rfl) rfl ?_
  intro p e R s m args below meth c A Q ls H hF hQ hnt hG hl
  have hx := hF.1.1
  have hb := hF.1.2.1
  have hts := hF.1.2.2.2.2
  obtain ⟨Q', hQ', hret⟩ := gx_ret hQ
  have hl : lv_has ls 6 [(0, .ref x), (1, .int p0), (2, .int p1)] := hl
  obtain ⟨bb, hd, he, sl, f, h9, t9, Bs, S, o⟩ := hX
  obtain ⟨hid, hL0, hsu, hsc, hfx, hfb, hfh, hfe, hfs⟩ := o.use
  have hlt : ∀ a e, G a = some e → a < sz := fun a e q => hG.lt q
  have hbn : b < sz := hlt _ _ o.2.2.2.2.2.1.2.1.1
  have hLs : L0 ≤ sz := Nat.le_trans hL0 (Nat.le_of_lt hbn)
  unfold c_X1_peakIn at h
  refine lv_iload_n hx hb dX1_peakIn_0 rfl (lv_at hl 1 rfl) ?_
  refine lv_i2l hx hb dX1_peakIn_1 rfl ?_
  refine lv_lconst (v := 1) hx hb dX1_peakIn_2 (by decide) ?_
  refine lv_ldc2 (v := 500) hx hb hF.1.2.2.2.1 (hts _ q1722) dX1_peakIn_3 ?_
  refine kx_inV in_int q1029 hF hG hl (Nat.le_of_ble_eq_true rfl) (Nat.le_of_ble_eq_true rfl) ⟨Nat.le_of_ble_eq_true rfl, Nat.le_of_ble_eq_true rfl⟩ (Nat.le_of_ble_eq_true rfl) dX1_peakIn_6 (fun H locs hG => ?_)
  have bad : ∀ (H : Heap) (locs : List Loc), ¬ ((1 ≤ p0.toInt ∧ p0.toInt ≤ 500) ∧ 1 ≤ p1.toInt ∧ p1.toInt ≤ 9999) → gJK g L0 A s.heap G sz H locs → W p l e R s m args below meth c H locs 0 0 Q (F0 m 28 ls []) := by
    intro H locs hn hG
    rw [if_neg hn] at h
    refine lv_iconst (v := 0) hx hb dX1_peakIn_28 (by decide) ?_
    exact kx_chk1 (P := some 0) (P2 := none) (o := 0) q1452 hst hF hQ hnt hG hl (Nat.le_of_ble_eq_true rfl) (Nat.le_of_ble_eq_true rfl) rfl ⟨Nat.le_of_ble_eq_true rfl, Nat.le_of_ble_eq_true rfl⟩ ⟨Nat.le_of_ble_eq_true rfl, Nat.le_of_ble_eq_true rfl⟩ (Nat.le_of_ble_eq_true rfl) dX1_peakIn_29 (fun _ q => ⟨1, (Option.some.inj h).symm, rfl, gx_rfl⟩) (fun h => by cases h)
  refine lv_if_eq hx hb dX1_peakIn_9 (tgt := 28) (by decide) (fun h1 => ?_) (fun h1 => ?_)
  · refine bad H locs (fun q => ?_) hG
    rw [if_pos (show (1 : Int64).toInt ≤ p0.toInt ∧ p0.toInt ≤ (500 : Int64).toInt from q.1)] at h1
    exact absurd h1 (by decide)
  refine lv_iload_n hx hb dX1_peakIn_12 rfl (lv_at hl 2 rfl) ?_
  refine lv_i2l hx hb dX1_peakIn_13 rfl ?_
  refine lv_lconst (v := 1) hx hb dX1_peakIn_14 (by decide) ?_
  refine lv_ldc2 (v := 9999) hx hb hF.1.2.2.2.1 (hts _ q1723) dX1_peakIn_15 ?_
  refine kx_inV in_int q1029 hF hG hl (Nat.le_of_ble_eq_true rfl) (Nat.le_of_ble_eq_true rfl) ⟨Nat.le_of_ble_eq_true rfl, Nat.le_of_ble_eq_true rfl⟩ (Nat.le_of_ble_eq_true rfl) dX1_peakIn_18 (fun H locs hG => ?_)
  refine lv_if_eq hx hb dX1_peakIn_21 (tgt := 28) (by decide) (fun h2 => ?_) (fun h2 => ?_)
  · refine bad H locs (fun q => ?_) hG
    rw [if_pos (show (1 : Int64).toInt ≤ p1.toInt ∧ p1.toInt ≤ (9999 : Int64).toInt from q.2)] at h2
    exact absurd h2 (by decide)
  have g1 : 1 ≤ p0.toInt ∧ p0.toInt ≤ 500 := by
    by_cases hc : (1 : Int64).toInt ≤ p0.toInt ∧ p0.toInt ≤ (500 : Int64).toInt
    · exact hc
    · rw [if_neg hc] at h1
      exact absurd rfl h1
  have g2 : 1 ≤ p1.toInt ∧ p1.toInt ≤ 9999 := by
    by_cases hc : (1 : Int64).toInt ≤ p1.toInt ∧ p1.toInt ≤ (9999 : Int64).toInt
    · exact hc
    · rw [if_neg hc] at h2
      exact absurd rfl h2
  rw [if_pos ⟨g1, g2⟩] at h
  refine lv_iconst (v := 1) hx hb dX1_peakIn_24 (by decide) ?_
  refine lv_goto hx hb dX1_peakIn_25 (tgt := 29) (by decide) ?_
  refine kx_chk1 (P := none) (P2 := some 0) (o := 0) q1452 hst hF hQ hnt hG hl (Nat.le_of_ble_eq_true rfl) (Nat.le_of_ble_eq_true rfl) rfl ⟨Nat.le_of_ble_eq_true rfl, Nat.le_of_ble_eq_true rfl⟩ ⟨Nat.le_of_ble_eq_true rfl, Nat.le_of_ble_eq_true rfl⟩ (Nat.le_of_ble_eq_true rfl) dX1_peakIn_29 (fun h => by cases h) (fun _ H locs hG => ?_)
  refine lv_aload_n hx hb dX1_peakIn_32 rfl (lv_at hl 0 rfl) ?_
  refine g_get hF hG hfx.1 (C := RX1) (T := TX1) (N := 7) rfl in_X1 4 (by decide) q754 (fun _ h => h) (v := .ref b) rfl dX1_peakIn_33 ?_
  obtain ⟨hz, h⟩ := gd_e h
  refine kx_copy q953 hF hG hl o.2.2.2.2.2.1 o.2.2.2.2.2.2.2.2.1 hz (Nat.le_of_ble_eq_true rfl) (Nat.le_of_ble_eq_true rfl) ⟨Nat.le_of_ble_eq_true rfl, Nat.le_of_ble_eq_true rfl⟩ (Nat.le_of_ble_eq_true rfl) dX1_peakIn_36 (fun H locs hG => ?_)
  refine lv_astore_n hx hb dX1_peakIn_39 rfl hl (Nat.le_of_ble_eq_true rfl) (lv' := [(3, .ref sz), (0, .ref x), (1, .int p0), (2, .int p1)]) rfl (fun ls hl => ?_)
  have hsu2 := hsu.lo hlt
  have hsc2 : suAt sz 0 G sc.1 (.inl (g.2.1 0, sc.2.1, .inl sc.2.2)) := hsc.lo hlt
  refine lv_aload_n hx hb dX1_peakIn_40 rfl (lv_at hl 0 rfl) ?_
  refine lv_iload_n hx hb dX1_peakIn_41 rfl (lv_at hl 3 rfl) ?_
  refine g_putN hF hG sG_0 hLs (C := RX2) (T := TX2) (N := 26) rfl in_X2 tyX2 tyX2_ok nmX2 17 (by decide) q619 (fun x h => h) rfl (by first | rfl | decide) rfl (by show 17 < 26; decide) dX1_peakIn_42 (fun H locs hG => ?_)
  rw [sG_sf0 (by decide)] at hG
  have L : ∀ (n k : Nat) (q : Int32) (σ1 : SS) (G1 : GH) (nz : Nat) (H : Heap) (locs : List Loc) (ls : Array Slot), n + k = 502 → k ≤ 500 → (ob1 (c_npm su sc p0 n (nI k) q σ1) fun q => some (Sum.inr q)) = some out → gx G G1 → gJK g L0 A s.heap (sG g.2.1 sz 0 (su.1 0) sc σ1 G1) nz H locs → lv_has ls 6 [(5, .int (nI k)), (4, .int q), (3, .ref sz), (0, .ref x), (1, .int p0)] → W p l e R s m args below meth c H locs (19 + 3 * k) (317 + 18 * k) Q (F0 m 51 ls []) := by
    intro n
    induction n with
    | zero => intro k q σ1 G1 nz H locs ls hn hk h; cases h
    | succ n ih =>
      intro k q σ1 G1 nz H locs ls hn hk h hx1 hG hl
      unfold c_npm at h
      refine lv_iload hx hb dX1_peakIn_51 (lv_at hl 0 rfl) ?_
      refine lv_iload_n hx hb dX1_peakIn_53 rfl (lv_at hl 4 rfl) ?_
      by_cases hge : p0 ≤ nI k
      · rw [if_pos hge] at h
        refine lv_icmp_ge hx hb dX1_peakIn_54 (tgt := 78) (by decide) (fun _ => ?_) (fun q => absurd hge q)
        have hroom : 19 + 3 * k ≤ 1519 ∧ 317 + 18 * k ≤ 9317 := by omega
        refine lv_iload hx hb dX1_peakIn_78 (lv_at hl 1 rfl) ?_
        exact hret _ _ _ _ _ (g_iret hQ' hG ⟨_, (Option.some.inj h).symm, rfl, gx_two hlt hx1⟩ hroom.1 hroom.2 dX1_peakIn_80)
      · rw [if_neg hge] at h
        have hkp : (k : Int) < p0.toInt := by
          refine Int.not_le.mp fun q => hge ?_
          rw [Int32.le_iff_toInt_le, nI_toInt (by omega)]
          exact q
        have hroom : 19 + 3 * k ≤ 1519 ∧ 317 + 18 * k ≤ 9317 := by omega
        have hroom3 : 19 + 3 * k + 3 ≤ 1519 ∧ 317 + 18 * k + 18 ≤ 9317 := by omega
        refine lv_icmp_ge hx hb dX1_peakIn_54 (tgt := 78) (by decide) (fun q => absurd q hge) (fun _ => ?_)
        refine lv_aload_n hx hb dX1_peakIn_57 rfl (lv_at hl 2 rfl) ?_
        obtain ⟨σ2, hr, h⟩ : ∃ σ2, c_X2_passes su sc σ1 = some σ2 ∧ (ob1 (c_npm su sc p0 n (nI (k + 1)) (if q < σ2.1 24 then σ2.1 24 else q) σ2) fun q => some (Sum.inr q)) = some out := by
          cases hr : c_X2_passes su sc σ1 with
          | none => rw [hr] at h; cases h
          | some σ2 =>
            rw [hr] at h
            exact ⟨σ2, rfl, by rw [← nI_1]; exact h⟩
        refine k_X2_passes (f := fun z => if_σ z σ2) (o := ()) q1592 hF hLs (hsu2.ext hx1) (hsc2.ext hx1) hG hl (Nat.le_of_ble_eq_true rfl) (Nat.le_of_ble_eq_true rfl) (by rw [hr]; exact if_σ_s) hroom3 (Nat.le_of_ble_eq_true rfl) dX1_peakIn_58 (fun z G2 n2 H locs hx2 hz hG => ?_)
        have hzz := if_σ_e hz
        subst hzz
        refine lv_iload hx hb dX1_peakIn_61 (lv_at hl 1 rfl) ?_
        refine lv_aload_n hx hb dX1_peakIn_63 rfl (lv_at hl 2 rfl) ?_
        refine g_getN hF hG sG_0 (C := RX2) (T := TX2) (N := 26) rfl in_X2 24 (by decide) q633 (fun _ h => h) (v := .int (z.1 24)) rfl dX1_peakIn_64 ?_
        refine g_max hF hl q1724 (Nat.le_of_ble_eq_true rfl) (Nat.le_of_ble_eq_true rfl) hroom3 dX1_peakIn_67 ?_
        refine lv_istore hx hb dX1_peakIn_70 hl (Nat.le_of_ble_eq_true rfl) (lv' := [(4, .int (if q < z.1 24 then z.1 24 else q)), (5, .int (nI k)), (3, .ref sz), (0, .ref x), (1, .int p0)]) rfl (fun ls hl => ?_)
        refine gb_iinc (k' := 1) (f := fun y => if y = nI (k + 1) then some () else none) (o := ()) hx hb dX1_peakIn_72 hl (k := 1) rfl (by decide) (Nat.le_of_ble_eq_true rfl) (by
          show (if nI k + 1 = nI (k + 1) then some () else none) = some ()
          rw [if_pos (nI_1 k)]) (fun y ls hy hl => ?_)
        have hy2 : y = nI (k + 1) := by
          by_cases hc : y = nI (k + 1)
          · exact hc
          · rw [if_neg hc] at hy; cases hy
        subst hy2
        have hl : lv_has ls 6 [(5, .int (nI (k + 1))), (4, .int (if q < z.1 24 then z.1 24 else q)), (3, .ref sz), (0, .ref x), (1, .int p0)] := hl
        refine lv_goto hx hb dX1_peakIn_75 (tgt := 51) (by decide) ?_
        exact ih (k + 1) _ z G2 n2 H locs ls (by omega) (by omega) h (hx1.tr hx2) hG hl
  refine lv_iconst (v := 0) hx hb dX1_peakIn_45 (by decide) ?_
  refine lv_istore hx hb dX1_peakIn_46 hl (Nat.le_of_ble_eq_true rfl) (lv' := [(4, .int 0), (3, .ref sz), (0, .ref x), (1, .int p0), (2, .int p1)]) rfl (fun ls hl => ?_)
  refine lv_iconst (v := 0) hx hb dX1_peakIn_48 (by decide) ?_
  refine lv_istore hx hb dX1_peakIn_49 hl (Nat.le_of_ble_eq_true rfl) (lv' := [(5, .int 0), (4, .int 0), (3, .ref sz), (0, .ref x), (1, .int p0), (2, .int p1)]) rfl (fun ls hl => ?_)
  exact L 502 0 0 _ G _ H locs ls rfl (by decide) h gx_rfl hG (lv_sub hl [0, 1, 2, 3, 4] rfl)
end NP
