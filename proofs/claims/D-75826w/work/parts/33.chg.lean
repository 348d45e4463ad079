/-! BlackoutStart.change: the history grows by the state, a copy is played on -/
def xh (hi : List SS) (σ : SS) : List SS := (if hi.length = 8 then hi.tail else hi) ++ [σ]
section CHG
variable {p : Program} {l : Launch} {e : Env} {R : Room} {s : State} {m : MethodId} {args : Array Value} {below : List Frame} {meth : Method} {c : Code} {H : Heap} {locs : List Loc} {cells slots : Nat} {Q : State → Prop}
variable {cc : ByteArray} {pc : Nat} {ls : Array Slot} {rest : List Value} {A : Nat → Prop} {L0 n nL : Nat} {g : gNum} {own : String} {rm : Room} {γ : Type} {o : γ} {lv : List (Nat × Value)} {RR : Option Value → GH → Nat → Prop} {RT : String → Addr → GH → Prop} {mc ms : Nat} {ret : Option FieldType}
variable {b d x : Nat} {sc : SC} {su : SU} {σ : SS} {G0 G : GH} {i : Int32} {index : Nat}
theorem kx_copy (hq : (Cond.methodLink own index yX2_copy) ∈ lw_all) (hF : gXK p m c cc nL s args own g A R rm) (hG : gJK g L0 A s.heap G n H locs) (hl : lv_has ls nL lv) (hk : kept g.2.1 L0 su sc G ((b, d), σ)) (h4 : su.1 4 = sc.1) (hz : σ.1 25 = 0 ∨ σ.1 25 = 1) (r1 : 3 + 1 ≤ rm.frames) (r2 : 8 + (2 + 11) + 110 ≤ rm.locals) (hc : cells + 18 ≤ rm.cells ∧ slots + 311 ≤ rm.slots) (hW : (rest.map fun v => v.category).sum ≤ 8) (hdg : decode cc pc = .ok (.invokevirtual index, 3))
    (kk : ∀ (H1 : Heap) (locs1 : List Loc), gJK g L0 A s.heap (sG g.2.1 n 0 (su.1 0) sc (cpS σ) G) (n + 18) H1 locs1 → W p l e R s m args below meth c H1 locs1 (cells + 18) (slots + 311) Q (F0 m (pc + 3) ls (.ref n :: rest))) : W p l e R s m args below meth c H locs cells slots Q (F0 m pc ls (.ref b :: rest)) := by
  have hbn : b < n := hG.lt hk.2.1.1
  have hLb : L0 ≤ b := hk.1
  refine g_callV hF hG hl hk.2.1.1 (C := RX2) (T := TX2) (N := 26) rfl (w_X2_copy (g := g) (l := l) (L0 := L0) (sz := n) (b := b) (d := d) (u := su.1 0) (sc0 := sc) (sc := sc) (σ := σ) (fu := suV su) (by omega) hk.2.1.1 hk.2.1.2 hk.2.2.1.1.1 (by rw [← h4]; rfl) hz) (cwV 0 hF.1.2.2.2.2 (lw_V hq q954 q955 q83 q956) rfl rfl rfl (by decide +kernel) (g_room hF r1 r2)) rfl rfl hW hdg (hfA hF.2.2.2.2 hc) (fun v G1 n1 H1 locs1 hR hG1 => ?_)
  obtain ⟨rfl, h2, h3⟩ := hR
  rw [h2, h3] at hG1
  exact kk H1 locs1 hG1
theorem gx_new {dA : Nat → ClassId} {u : Nat} {σ' : SS} (hlt : ∀ a e, G a = some e → a < n) : gx G (sG dA n 0 u sc σ' G) := fun a e h => by rw [sG_out (gO_lo (hlt a e h))]; exact h
theorem suAt.cp {b d a n : Nat} {dA : Nat → ClassId} {u : Nat} {σ' : SS} {e : va_E} (h : suAt b d G a e) (hlt : ∀ a e, G a = some e → a < n) : suAt n 0 (sG dA n 0 u sc σ' G) a e := ⟨gx_new hlt _ _ h.1, gO_lo (hlt _ _ h.1)⟩
theorem kept.cp {dA : Nat → ClassId} {σ' : SS} {z : BA × SS} (hk : kept dA L0 su sc G z) (hlt : ∀ a e, G a = some e → a < n) (hn : L0 ≤ n) : kept dA L0 su sc (sG dA n 0 (su.1 0) sc σ' G) ((n, 0), σ') := by
  obtain ⟨h1, h2, h3, h4, h5, h6, h7, h8, h9⟩ := hk.2.2.1
  exact ⟨hn, blkAt_sG, ⟨h1.cp hlt, h2.cp hlt, h3.cp hlt, h4.cp hlt, h5.cp hlt, h6.cp hlt, fun k q => (h7 k q).cp hlt, fun k q => (h8 k q).cp hlt, h9⟩, hk.2.2.2.cp hlt⟩
theorem XB.cp {dA : Nat → ClassId} {iv by_ : Nat → Int32} {cu : Nat} {Ks : List (BA × SS)} {Ls : List Nat} {sa : Nat → Option Nat} {bb hd he sl : Nat} {f : Nat → Option Nat} {h t : Int32} {σ' : SS} {z : BA × SS} (o : XB dA L0 x su sc iv by_ cu Ks Ls sa G bb hd he sl f h t) (hz : z ∈ Ks) (hlt : ∀ a e, G a = some e → a < n) : XB dA L0 x su sc iv by_ cu (((n, 0), σ') :: Ks) Ls sa (sG dA n 0 (su.1 0) sc σ' G) bb hd he sl f h t := by
  have hk := o.2.2.2.1
  refine o.new (gx_new hlt) ((hk z hz).cp hlt ?_) (fun y hy => ?_)
  · have := hlt _ _ (hk z hz).2.1.1
    have := (hk z hz).1
    omega
  · have := hlt _ _ ((hk y hy).2.1.2 17 (by decide))
    exact Or.inr this
set_option maxRecDepth 100000 in
theorem w_X1_change {l : Launch} {sz : Nat} {iv by_ : Nat → Int32} {hi : List SS} {so : Nat → Option SS} (hX : XW g.2.1 L0 x (su, sc, σ, iv, by_, hi, so) b d G) (hz : σ.1 25 = 0 ∨ σ.1 25 = 1) : gMet l yX1_change (ws_ yX1_change cX1_change 2 (some (.object "BlackoutStart$State"))) g.1 clX L0 (gK g) [.ref x] G sz 6 180 18 311 (fun v G' n => ∃ b', v = some (.ref b') ∧ XW g.2.1 L0 x (su, sc, cpS σ, iv, by_, xh hi σ, so) b' 0 G') := by
  refine gMet.of (own := RX1) (gK_ok g) (by decide +kernel) (Nat.le_of_ble_eq_true rfl) rfl ?_
  intro p e R s m args below meth c A Q ls H hF hQ hin hG hl
  have hx := hF.1.1
  have hb := hF.1.2.1
  have hl : lv_has ls 2 [(0, .ref x)] := hl
  obtain ⟨bb, hd, he, sl, f, h9, t9, Bs, S, o⟩ := hX
  have B := o.toB
  have hh : hi = Bs.map (·.2) := o.2.2.2.1
  have hs : ∀ i, so i = (S i).map (·.2) := o.2.2.2.2.1
  have key : ∀ (G1 : GH) (Bs1 : List (BA × SS)) (f1 : Nat → Option Nat) (h1 t1 : Int32) (H : Heap) (locs : List Loc) (ls : Array Slot), gJK g L0 A s.heap G1 sz H locs → lv_has ls 2 [(0, .ref x)] → XB g.2.1 L0 x su sc iv by_ b (((b, d), σ) :: (Bs1 ++ slR S)) (Bs1.map (·.1.1)) (fun i => (S i).map (·.1.1)) G1 bb hd he sl f1 h1 t1 → Bs1.length < 8 → Bs1.map (·.2) = (if hi.length = 8 then hi.tail else hi) → W p l e R s m args below meth c H locs 0 0 Q (F0 m 23 ls []) := by
    intro G1 Bs1 f1 h1 t1 H locs ls hG hl B1 hlen hBs
    have hk1 := B1.2.2.2.1 _ List.mem_cons_self
    refine lv_aload_n hx hb dX1_change_23 rfl (lv_at hl 0 rfl) ?_
    refine g_get hF hG B1.1.1 (C := RX1) (T := TX1) (N := 7) rfl in_X1 5 (by decide) q755 (fun _ h => h) (v := .ref hd) rfl dX1_change_24 ?_
    refine lv_aload_n hx hb dX1_change_27 rfl (lv_at hl 0 rfl) ?_
    refine g_get hF hG B1.1.1 (C := RX1) (T := TX1) (N := 7) rfl in_X1 4 (by decide) q754 (fun _ h => h) (v := .ref b) rfl dX1_change_28 ?_
    obtain ⟨t2, f2, ha, hq2⟩ := dq_add (a := hd) (ar := he) (x := b) B1.2.2.1 (by rw [List.length_map]; exact hlen)
    refine g_callV hF hG hl B1.1.2.2.1 (C := RJ18) (T := TJ18) (N := 3) rfl (w_J18_addLast (g := g) (l := l) (L0 := L0) (sz := sz) B1.1.2.2.1 B1.1.2.2.2.1 hk1.2.1.1 B1.2.1.2.2.1 B1.2.1.2.2.2.1 ha) (As := [.ref b]) (cwV 1 hF.1.2.2.2.2 (lw_V q887 q888 q889 q107 q890) rfl rfl rfl (by decide +kernel) (g_room hF (Nat.le_of_ble_eq_true rfl) (Nat.le_of_ble_eq_true rfl))) rfl rfl (Nat.le_of_ble_eq_true rfl) dX1_change_31 (hf0 hF.2.2.2.2 ⟨Nat.le_of_ble_eq_true rfl, Nat.le_of_ble_eq_true rfl⟩) (fun v G2 n2 H locs hR hG => ?_)
    obtain ⟨rfl, e2, e3⟩ := hR
    rw [e2, e3] at hG
    have B2 := B1.pdq hq2
    refine lv_aload_n hx hb dX1_change_34 rfl (lv_at hl 0 rfl) ?_
    refine lv_aload_n hx hb dX1_change_35 rfl (lv_at hl 0 rfl) ?_
    refine g_get hF hG B2.1.1 (C := RX1) (T := TX1) (N := 7) rfl in_X1 4 (by decide) q754 (fun _ h => h) (v := .ref b) rfl dX1_change_36 ?_
    refine kx_copy q953 hF hG hl (B2.2.2.2.1 _ List.mem_cons_self) B2.2.2.2.2.2.1 hz (Nat.le_of_ble_eq_true rfl) (Nat.le_of_ble_eq_true rfl) ⟨Nat.le_of_ble_eq_true rfl, Nat.le_of_ble_eq_true rfl⟩ (Nat.le_of_ble_eq_true rfl) dX1_change_39 (fun H1 locs1 hG1 => ?_)
    have B3 := B2.cp (n := sz) (σ' := cpS σ) List.mem_cons_self (fun a e q => hG.lt q)
    refine g_put hF hG1 B3.1.1 B3.2.1.1 (C := RX1) (T := TX1) (N := 7) rfl in_X1 tyX1 tyX1_ok nmX1 4 (by decide) q754 (fun _ h => h) rfl (by first | rfl | decide) rfl (Nat.le_of_ble_eq_true rfl) dX1_change_42 (fun H locs hG => ?_)
    have hG : gJK g L0 A s.heap (gU _ x (.inr (0, xV bb sz hd sl iv))) (sz + 18) H locs := hG
    have B4 := B3.px (iv' := iv) (cu' := sz)
    refine lv_aload_n hx hb dX1_change_45 rfl (lv_at hl 0 rfl) ?_
    refine g_get hF hG B4.1.1 (C := RX1) (T := TX1) (N := 7) rfl in_X1 4 (by decide) q754 (fun _ h => h) (v := .ref sz) rfl dX1_change_46 ?_
    refine g_aret hQ (Or.inl ⟨_, rfl⟩) hG (Or.inr ⟨_, rfl⟩) ⟨sz, rfl, bb, hd, he, sl, f2, h1, t2, Bs1 ++ [((b, d), σ)], S, ?_⟩ (Nat.le_of_ble_eq_true rfl) (Nat.le_of_ble_eq_true rfl) dX1_change_49
    refine XB.toO ?_ (by rw [List.map_append, hBs]; rfl) hs
    rw [List.map_append]
    refine B4.perm (List.Perm.cons _ ?_)
    rw [List.append_assoc]
    exact List.perm_middle.symm
  refine lv_aload_n hx hb dX1_change_0 rfl (lv_at hl 0 rfl) ?_
  refine g_get hF hG B.1.1 (C := RX1) (T := TX1) (N := 7) rfl in_X1 5 (by decide) q755 (fun _ h => h) (v := .ref hd) rfl dX1_change_1 ?_
  refine kx_hsz q845 hF hG hl B.1.2.2.1 B.1.2.2.2.1 B.2.2.1 (Nat.le_of_ble_eq_true rfl) (Nat.le_of_ble_eq_true rfl) ⟨Nat.le_of_ble_eq_true rfl, Nat.le_of_ble_eq_true rfl⟩ (Nat.le_of_ble_eq_true rfl) dX1_change_4 (fun H locs hG => ?_)
  refine lv_bipush (v := 8) hx hb dX1_change_7 (by decide) ?_
  have hle : Bs.length ≤ 8 := by
    obtain ⟨k, -, -, h8, -⟩ := B.2.2.1
    rw [List.length_map] at h8
    exact h8
  have hhl : hi.length = Bs.length := by rw [hh, List.length_map]
  rw [List.length_map]
  refine lv_icmp_ne hx hb dX1_change_9 (tgt := 23) (by decide) (fun hn => ?_) (fun he8 => ?_)
  · have hne : Bs.length ≠ 8 := fun q => hn (by rw [q]; decide)
    refine key G Bs f h9 t9 H locs ls hG hl B (by omega) ?_
    rw [if_neg (by omega), hh]
  · have h8 : Bs.length = 8 := (nI_eq (by omega) (by decide)).mp he8
    match Bs, h8, hh, B with
    | z :: Bs1, h8, hh, B =>
      have hl1 : Bs1.length = 7 := by simpa using h8
      refine lv_aload_n hx hb dX1_change_12 rfl (lv_at hl 0 rfl) ?_
      refine g_get hF hG B.1.1 (C := RX1) (T := TX1) (N := 7) rfl in_X1 5 (by decide) q755 (fun _ h => h) (v := .ref hd) rfl dX1_change_13 ?_
      obtain ⟨h2, f2, ha, hq2⟩ := dq_remF (a := hd) (ar := he) (L := Bs1.map (·.1.1)) (x := z.1.1) B.2.2.1
      refine g_callV hF hG hl B.1.2.2.1 (C := RJ18) (T := TJ18) (N := 3) rfl (w_J18_removeFirst (g := g) (l := l) (L0 := L0) (sz := sz) B.1.2.2.1 B.1.2.2.2.1 B.2.1.2.2.1 B.2.1.2.2.2.1 ha) (As := []) (cwV 0 hF.1.2.2.2.2 (lw_V q852 q853 q854 q107 q855) rfl rfl rfl (by decide +kernel) (g_room hF (Nat.le_of_ble_eq_true rfl) (Nat.le_of_ble_eq_true rfl))) rfl rfl (Nat.le_of_ble_eq_true rfl) dX1_change_16 (hf0 hF.2.2.2.2 ⟨Nat.le_of_ble_eq_true rfl, Nat.le_of_ble_eq_true rfl⟩) (fun v G2 n2 H locs hR hG => ?_)
      obtain ⟨rfl, e2, e3⟩ := hR
      rw [e2, e3] at hG
      have B2 := B.pdq hq2
      have hzk := B2.2.2.2.1 z (List.mem_cons_of_mem _ (by simp))
      refine g_castS hF hG hzk.2.1.1 (q := (RX2, TX2, 26)) rfl q130 dX1_change_19 ?_
      refine lv_astore_n hx hb dX1_change_22 rfl hl (Nat.le_of_ble_eq_true rfl) (lv' := [(1, .ref z.1.1), (0, .ref x)]) rfl (fun ls hl => ?_)
      refine key _ Bs1 f2 h2 t9 H locs ls hG (lv_sub hl [1] rfl) (B2.sub ?_) (by omega) ?_
      · exact List.Sublist.cons₂ _ (List.Sublist.cons _ (List.Sublist.refl _))
      · rw [if_pos (by rw [hhl]; exact h8), hh]
        rfl
end CHG
