/-! BlackoutStart.run -/
section RUN
variable {L0 b d x sz : Nat} {g : gNum} {sc : SC} {su : SU} {σ : SS} {G : GH} {iv by_ : Nat → Int32} {hi : List SS} {so : Nat → Option SS} {p0 : Int32}
set_option maxRecDepth 100000 in
theorem w_X1_run {l : Launch} (hst : l.stackTraces = false) (hX : XW g.2.1 L0 x (su, sc, σ, iv, by_, hi, so) b d G) {out : Nat ⊕ (Int32 × SS)} (h : c_X1_run su sc σ p0 = some out) : gMetX l yX1_run (ws_ yX1_run cX1_run 4 (some .int)) g.1 clX L0 (gK g) [.ref x, .int p0] G sz 12 300 620 3923 (fun v G' n => ∃ r σ' b' d', out = .inr (r, σ') ∧ v = some (.int r) ∧ XW g.2.1 L0 x (su, sc, σ', iv, by_, xh hi σ, so) b' d' G') (fun E _ G' => ∃ k, out = .inl k ∧ E = exN k ∧ gx G G') := by
  refine gMetX.of (own := RX1) (gK_ok g) (by decide +kernel) (Nat.le_of_ble_eq_true rfl) rfl ?_
  intro p e R s m args below meth c A Q ls H hF hQ hnt hG hl
  have hx := hF.1.1
  have hb := hF.1.2.1
  have hts := hF.1.2.2.2.2
  obtain ⟨Q', hQ', hret⟩ := gx_ret hQ
  have hl : lv_has ls 4 [(0, .ref x), (1, .int p0)] := hl
  obtain ⟨bb, hd, he, sl, f, h9, t9, Bs, S, o⟩ := hX
  obtain ⟨hid, hL0, hsu, hsc, hfx, hfb, hfh, hfe, hfs⟩ := o.use
  unfold c_X1_run at h
  refine lv_iload_n hx hb dX1_run_0 rfl (lv_at hl 1 rfl) ?_
  refine lv_i2l hx hb dX1_run_1 rfl ?_
  refine lv_lconst (v := 1) hx hb dX1_run_2 (by decide) ?_
  refine lv_ldc2 (v := 200) hx hb hF.1.2.2.2.1 (hts _ q1740) dX1_run_3 ?_
  refine kx_inV in_int q1029 hF hG hl (Nat.le_of_ble_eq_true rfl) (Nat.le_of_ble_eq_true rfl) ⟨Nat.le_of_ble_eq_true rfl, Nat.le_of_ble_eq_true rfl⟩ (Nat.le_of_ble_eq_true rfl) dX1_run_6 (fun H locs hG => ?_)
  have h' : (if (if (1 : Int64).toInt ≤ p0.toInt ∧ p0.toInt ≤ (200 : Int64).toInt then (1 : Int32) else 0) = 0 then some (Sum.inl 1) else c_X1_run su sc σ p0) = some out := by
    by_cases hc : 1 ≤ p0.toInt ∧ p0.toInt ≤ 200
    · rw [if_pos (show (1 : Int64).toInt ≤ p0.toInt ∧ p0.toInt ≤ (200 : Int64).toInt from hc), if_neg (by decide)]
      exact h
    · rw [if_neg (show ¬ ((1 : Int64).toInt ≤ p0.toInt ∧ p0.toInt ≤ (200 : Int64).toInt) from hc), if_pos rfl]
      rw [if_neg hc] at h
      exact h
  by_cases hc : 1 ≤ p0.toInt ∧ p0.toInt ≤ 200
  case neg =>
    rw [if_neg hc] at h
    rw [if_neg (show ¬ ((1 : Int64).toInt ≤ p0.toInt ∧ p0.toInt ≤ (200 : Int64).toInt) from hc)]
    exact kx_chk1 (P := some 0) (P2 := none) (o := 0) q1452 hst hF hQ hnt hG hl (Nat.le_of_ble_eq_true rfl) (Nat.le_of_ble_eq_true rfl) rfl ⟨Nat.le_of_ble_eq_true rfl, Nat.le_of_ble_eq_true rfl⟩ ⟨Nat.le_of_ble_eq_true rfl, Nat.le_of_ble_eq_true rfl⟩ (Nat.le_of_ble_eq_true rfl) dX1_run_9 (fun _ q => ⟨1, (Option.some.inj h).symm, rfl, gx_rfl⟩) (fun h => by cases h)
  clear h'
  rw [if_pos hc] at h
  rw [if_pos (show (1 : Int64).toInt ≤ p0.toInt ∧ p0.toInt ≤ (200 : Int64).toInt from hc)]
  refine kx_chk1 (P := none) (P2 := some 0) (o := 0) q1452 hst hF hQ hnt hG hl (Nat.le_of_ble_eq_true rfl) (Nat.le_of_ble_eq_true rfl) rfl ⟨Nat.le_of_ble_eq_true rfl, Nat.le_of_ble_eq_true rfl⟩ ⟨Nat.le_of_ble_eq_true rfl, Nat.le_of_ble_eq_true rfl⟩ (Nat.le_of_ble_eq_true rfl) dX1_run_9 (fun h => by cases h) (fun _ H locs hG => ?_)
  have hG : gJK g L0 A s.heap (sG g.2.1 b d (su.1 0) sc σ G) sz H locs := by
    rw [hid]
    exact hG
  refine lv_aload_n hx hb dX1_run_12 rfl (lv_at hl 0 rfl) ?_
  refine g_get hF hG hfx.rd (C := RX1) (T := TX1) (N := 7) rfl in_X1 4 (by decide) q754 (fun _ h => h) (v := .ref b) rfl dX1_run_13 ?_
  refine g_getN hF hG sG_0 (C := RX2) (T := TX2) (N := 26) rfl in_X2 19 (by decide) q623 (fun _ h => h) (v := .int (σ.1 19)) rfl dX1_run_16 ?_
  refine lv_iload_n hx hb dX1_run_19 rfl (lv_at hl 1 rfl) ?_
  refine lv_iadd hx hb dX1_run_20 ?_
  refine lv_sipush (v := 5000) hx hb dX1_run_21 (by decide) ?_
  refine gb_icmp_gt hx hb dX1_run_24 (tgt := 31) (by decide) h (fun h => ?_) (fun h => ?_)
  · refine lv_iconst (v := 0) hx hb dX1_run_31 (by decide) ?_
    rw [hid] at hG
    exact kx_chk2 (P := some 0) (P2 := none) (o := 0) q991 hst hF hQ hnt hG hl (Nat.le_of_ble_eq_true rfl) (Nat.le_of_ble_eq_true rfl) rfl ⟨Nat.le_of_ble_eq_true rfl, Nat.le_of_ble_eq_true rfl⟩ ⟨Nat.le_of_ble_eq_true rfl, Nat.le_of_ble_eq_true rfl⟩ (Nat.le_of_ble_eq_true rfl) dX1_run_32 (fun _ q => ⟨2, (Option.some.inj h).symm, rfl, gx_rfl⟩) (fun h => by cases h)
  refine lv_iconst (v := 1) hx hb dX1_run_27 (by decide) ?_
  refine lv_goto hx hb dX1_run_28 (tgt := 32) (by decide) ?_
  refine kx_chk2 (P := none) (P2 := some 0) (o := 0) q991 hst hF hQ hnt hG hl (Nat.le_of_ble_eq_true rfl) (Nat.le_of_ble_eq_true rfl) rfl ⟨Nat.le_of_ble_eq_true rfl, Nat.le_of_ble_eq_true rfl⟩ ⟨Nat.le_of_ble_eq_true rfl, Nat.le_of_ble_eq_true rfl⟩ (Nat.le_of_ble_eq_true rfl) dX1_run_32 (fun h => by cases h) (fun _ H locs hG => ?_)
  refine lv_aload_n hx hb dX1_run_35 rfl (lv_at hl 0 rfl) ?_
  refine kx_change q841 hF o hid hfx hG hl (Nat.le_of_ble_eq_true rfl) (Nat.le_of_ble_eq_true rfl) h ⟨Nat.le_of_ble_eq_true rfl, Nat.le_of_ble_eq_true rfl⟩ (Nat.le_of_ble_eq_true rfl) dX1_run_36 (fun σ1 b1 d1 Gn n1 H locs h hX hG => ?_)
  obtain ⟨bb, hd, he, sl, f, h9, t9, Bs, S, o⟩ := hX
  obtain ⟨hid, hL0, hsu2, hsc2, hfx, hfb, hfh, hfe, hfs⟩ := o.use
  have hG : gJK g L0 A s.heap (sG g.2.1 b1 d1 (su.1 0) sc σ1 Gn) n1 H locs := by
    rw [hid]
    exact hG
  refine lv_astore_n hx hb dX1_run_39 rfl hl (Nat.le_of_ble_eq_true rfl) (lv' := [(2, .ref b1), (0, .ref x), (1, .int p0)]) rfl (fun ls hl => ?_)
  have L : ∀ (n k : Nat) (σ1 : SS) (G1 : GH) (nz : Nat) (H : Heap) (locs : List Loc) (ls : Array Slot), n + k = 502 → k ≤ 200 → (ob1 (c_np su sc p0 n (nI k) σ1) fun σ2 => ob1 (c_X2_inState su σ2 3) fun v => ob1 (j_J16_bitCount v) fun r => some (Sum.inr (r, σ2))) = some out → gx Gn G1 → gJK g L0 A s.heap (sG g.2.1 b1 d1 (su.1 0) sc σ1 G1) nz H locs → lv_has ls 4 [(3, .int (nI k)), (2, .ref b1), (1, .int p0)] → W p l e R s m args below meth c H locs (20 + 3 * k) (323 + 18 * k) Q (F0 m 42 ls []) := by
    intro n
    induction n with
    | zero => intro k σ1 G1 nz H locs ls hn hk h; cases h
    | succ n ih =>
      intro k σ1 G1 nz H locs ls hn hk h hx1 hG hl
      unfold c_np at h
      refine lv_iload_n hx hb dX1_run_42 rfl (lv_at hl 0 rfl) ?_
      refine lv_iload_n hx hb dX1_run_43 rfl (lv_at hl 2 rfl) ?_
      by_cases hge : p0 ≤ nI k
      · rw [if_pos hge] at h
        have h : (ob1 (c_X2_inState su σ1 3) fun v => ob1 (j_J16_bitCount v) fun r => some (Sum.inr (r, σ1))) = some out := h
        refine lv_icmp_ge hx hb dX1_run_44 (tgt := 57) (by decide) (fun _ => ?_) (fun q => absurd hge q)
        have hroom : 20 + 3 * k ≤ 620 ∧ 323 + 18 * k ≤ 3923 := by omega
        refine lv_aload_n hx hb dX1_run_57 rfl (lv_at hl 1 rfl) ?_
        refine lv_iconst (v := 3) hx hb dX1_run_58 (by decide) ?_
        refine k_X2_inState q1532 hF hL0 (hsu2.ext hx1) (hsc2.ext hx1) hG hl (Nat.le_of_ble_eq_true rfl) (Nat.le_of_ble_eq_true rfl) h hroom (Nat.le_of_ble_eq_true rfl) dX1_run_59 (fun v H locs h hG => ?_)
        refine ks_bits q1741 hF hG hl (Nat.le_of_ble_eq_true rfl) (Nat.le_of_ble_eq_true rfl) h hroom (Nat.le_of_ble_eq_true rfl) dX1_run_62 (fun r H locs h hG => ?_)
        exact hret _ _ _ _ _ (g_iret hQ' hG ⟨r, σ1, b1, d1, (Option.some.inj h).symm, rfl, XW.upd ⟨bb, hd, he, sl, f, h9, t9, Bs, S, o⟩ hx1⟩ hroom.1 hroom.2 dX1_run_65)
      · rw [if_neg hge] at h
        have hkp : (k : Int) < p0.toInt := by
          refine Int.not_le.mp fun q => hge ?_
          rw [Int32.le_iff_toInt_le, nI_toInt (by omega)]
          exact q
        have hroom3 : 20 + 3 * k + 3 ≤ 620 ∧ 323 + 18 * k + 18 ≤ 3923 := by omega
        refine lv_icmp_ge hx hb dX1_run_44 (tgt := 57) (by decide) (fun q => absurd q hge) (fun _ => ?_)
        refine lv_aload_n hx hb dX1_run_47 rfl (lv_at hl 1 rfl) ?_
        obtain ⟨σ2, hr, h⟩ : ∃ σ2, c_X2_passes su sc σ1 = some σ2 ∧ (ob1 (c_np su sc p0 n (nI (k + 1)) σ2) fun σ2 => ob1 (c_X2_inState su σ2 3) fun v => ob1 (j_J16_bitCount v) fun r => some (Sum.inr (r, σ2))) = some out := by
          cases hr : c_X2_passes su sc σ1 with
          | none => rw [hr] at h; cases h
          | some σ2 =>
            rw [hr] at h
            exact ⟨σ2, rfl, by rw [← nI_1]; exact h⟩
        refine k_X2_passes (f := fun z => if_σ z σ2) (o := ()) q1592 hF hL0 (hsu2.ext hx1) (hsc2.ext hx1) hG hl (Nat.le_of_ble_eq_true rfl) (Nat.le_of_ble_eq_true rfl) (by rw [hr]; exact if_σ_s) hroom3 (Nat.le_of_ble_eq_true rfl) dX1_run_48 (fun z G2 n2 H locs hx2 hz hG => ?_)
        have hzz := if_σ_e hz
        subst hzz
        refine gb_iinc (k' := 1) (f := fun y => if y = nI (k + 1) then some () else none) (o := ()) hx hb dX1_run_51 hl (k := 0) rfl (by decide) (Nat.le_of_ble_eq_true rfl) (by
          show (if nI k + 1 = nI (k + 1) then some () else none) = some ()
          rw [if_pos (nI_1 k)]) (fun y ls hy hl => ?_)
        have hy2 : y = nI (k + 1) := by
          by_cases hc : y = nI (k + 1)
          · exact hc
          · rw [if_neg hc] at hy; cases hy
        subst hy2
        have hl : lv_has ls 4 [(3, .int (nI (k + 1))), (2, .ref b1), (1, .int p0)] := hl
        refine lv_goto hx hb dX1_run_54 (tgt := 42) (by decide) ?_
        exact ih (k + 1) z G2 n2 H locs ls (by omega) (by omega) h (hx1.tr hx2) hG hl
  refine lv_iconst (v := 0) hx hb dX1_run_40 (by decide) ?_
  refine lv_istore_n hx hb dX1_run_41 rfl hl (Nat.le_of_ble_eq_true rfl) (lv' := [(3, .int 0), (2, .ref b1), (0, .ref x), (1, .int p0)]) rfl (fun ls hl => ?_)
  exact L 502 0 σ1 Gn _ H locs ls rfl (by decide) h gx_rfl hG (lv_sub hl [0, 1, 3] rfl)
end RUN
