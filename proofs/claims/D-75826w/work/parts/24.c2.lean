section CC
variable {p : Program} {l : Launch} {e : Env} {R : Room} {s : State} {m : MethodId} {args : Array Value} {below : List Frame} {meth : Method} {c : Code} {H : Heap} {locs : List Loc} {cells slots : Nat} {Q : State → Prop}
variable {cc : ByteArray} {pc : Nat} {ls : Array Slot} {rest : List Value} {A : Nat → Prop} {L0 n nL : Nat} {g : gNum} {rm : Room} {lv : List (Nat × Value)} {γ : Type} {o : γ}
variable {b d : Nat} {su : SU} {sc : SC} {σ : SS} {G0 : GH}
/-! X2_granted -/
def c_X2_granted_L5 (su : SU) (σ : SS) (v2 : Int32) : Nat → Int32 → Int32 → OS → Option (OS ⊕ (OS))
  | 0, _, _, _ => none
  | n + 1, y6, y7, y8 =>
    if y7 = 0 then (
    some (Sum.inr y8))
    else (
    ob1 (c_X2_first su σ y7) fun (v9 : Int32) =>
    nm (y7 &&& ((1 <<< (v9 &&& 31)) ^^^ (-1))) fun (x10 : Int32) =>
    ob1 (U_need su v9) fun (v11 : Int32) =>
    if (v11 &&& (v2 ^^^ (-1))) = 0 then (
    ob1 (c_X2_expected su σ v9) fun (v12 : Int32) =>
    oe2 (ρ := OS) (
    if (σ.1 17) < (y6 + v12) then (
    if (σ.1 25) = 0 then (
    some (Sum.inr (y6, y8)))
    else (
    some (Sum.inl y8)))
    else (
    ob1 (c_X2_expected su σ v9) fun (v13 : Int32) =>
    nm (y6 + v13) fun (x14 : Int32) =>
    ob1 (o_add y8 v9) fun (r15 : OS) =>
    some (Sum.inr (x14, r15)))) (fun r => some (Sum.inl r)) fun (z16 : Int32) (z17 : OS) =>
    c_X2_granted_L5 su σ v2 n z16 x10 z17)
    else (
    c_X2_granted_L5 su σ v2 n y6 x10 y8))
def c_X2_granted (su : SU) (σ : SS) : Option (OS) :=
nm ((fun _ => 0, 0) : OS) fun (r1 : OS) =>
ob1 (c_X2_withMark su σ 3) fun (v2 : Int32) =>
ob1 (c_X2_reserved su σ) fun (v3 : Int32) =>
ob1 (c_X2_withMark su σ 1) fun (v4 : Int32) =>
oe1 (ρ := OS) (
c_X2_granted_L5 su σ v2 4096 v3 v4 r1) (fun r => some r) fun (z18 : OS) =>
some z18
set_option maxRecDepth 100000 in
theorem w_X2_granted {l : Launch} {g : gNum} {L0 b d sz : Nat} {su : SU} {sc : SC} {G0 : GH} (hL0 : L0 ≤ b) (hsu : suOK g.2.1 su b d G0) (hsc : suAt b d G0 sc.1 (.inl (g.2.1 0, sc.2.1, .inl sc.2.2))) (σ : SS) {out : OS} (h : c_X2_granted su σ = some out) : gMet l yX2_granted (ws_ yX2_granted cX2_granted 6 (some (.object "BlackoutStart$Order"))) g.1 clX L0 (gK g) [.ref b] (sG g.2.1 b d (su.1 0) sc σ G0) sz 7 149 2 14 (fun v G n => ∃ (c' : Nat) (G1 : GH), v = some (.ref c') ∧ gx G0 G1 ∧ G = sG g.2.1 b d (su.1 0) sc σ G1 ∧ suAt b d G1 c' (.inr (3, [.ref (c' + 1), .int out.2])) ∧ suAt b d G1 (c' + 1) (.inl (g.2.1 0, 12, .inl out.1))) := by
  refine gMet.of (own := RX2) (gK_ok g) (by decide +kernel) (Nat.le_of_ble_eq_true rfl) rfl ?_
  intro p e R s m args below meth c A Q ls H hF hQ hin hG hl
  have hx := hF.1.1
  have hb := hF.1.2.1
  have hts := hF.1.2.2.2.2
  have hl : lv_has ls 6 [(0, .ref b)] := hl
  unfold c_X2_granted at h
  refine ks_newo q543 q545 hF hL0 hG hl (Nat.le_of_ble_eq_true rfl) (Nat.le_of_ble_eq_true rfl) ⟨Nat.le_of_ble_eq_true rfl, Nat.le_of_ble_eq_true rfl⟩ (Nat.le_of_ble_eq_true rfl) dX2_granted_0 dX2_granted_3 dX2_granted_4 (fun H locs hf1 hG => ?_)
  obtain ⟨r1, e_r1⟩ : ∃ z : OS, ((fun _ => 0, 0) : OS) = z := ⟨_, rfl⟩
  rw [e_r1] at hG
  unfold nm at h
  rw [e_r1] at h
  refine lv_astore_n hx hb dX2_granted_7 rfl hl (Nat.le_of_ble_eq_true rfl) (lv' := [(1, .ref sz), (0, .ref b)]) rfl (fun ls hl => ?_)
  refine lv_aload_n hx hb dX2_granted_8 rfl (lv_at hl 1 rfl) ?_
  refine lv_iconst (v := 3) hx hb dX2_granted_9 (by decide) ?_
  refine k_X2_withMark q804 hF hL0 (hsu.ext (gx_oG hf1 _)) (hsc.ext (gx_oG hf1 _)) hG hl (Nat.le_of_ble_eq_true rfl) (Nat.le_of_ble_eq_true rfl) h ⟨Nat.le_of_ble_eq_true rfl, Nat.le_of_ble_eq_true rfl⟩ (Nat.le_of_ble_eq_true rfl) dX2_granted_10 (fun v2 H locs h hG => ?_)
  refine lv_istore_n hx hb dX2_granted_13 rfl hl (Nat.le_of_ble_eq_true rfl) (lv' := [(2, .int v2), (1, .ref sz), (0, .ref b)]) rfl (fun ls hl => ?_)
  refine lv_aload_n hx hb dX2_granted_14 rfl (lv_at hl 2 rfl) ?_
  refine k_X2_reserved q808 hF hL0 (hsu.ext (gx_oG hf1 _)) (hsc.ext (gx_oG hf1 _)) hG hl (Nat.le_of_ble_eq_true rfl) (Nat.le_of_ble_eq_true rfl) h ⟨Nat.le_of_ble_eq_true rfl, Nat.le_of_ble_eq_true rfl⟩ (Nat.le_of_ble_eq_true rfl) dX2_granted_15 (fun v3 H locs h hG => ?_)
  refine lv_istore_n hx hb dX2_granted_18 rfl hl (Nat.le_of_ble_eq_true rfl) (lv' := [(3, .int v3), (2, .int v2), (1, .ref sz), (0, .ref b)]) rfl (fun ls hl => ?_)
  refine lv_aload_n hx hb dX2_granted_19 rfl (lv_at hl 3 rfl) ?_
  refine lv_iconst (v := 1) hx hb dX2_granted_20 (by decide) ?_
  refine k_X2_withMark q804 hF hL0 (hsu.ext (gx_oG hf1 _)) (hsc.ext (gx_oG hf1 _)) hG hl (Nat.le_of_ble_eq_true rfl) (Nat.le_of_ble_eq_true rfl) h ⟨Nat.le_of_ble_eq_true rfl, Nat.le_of_ble_eq_true rfl⟩ (Nat.le_of_ble_eq_true rfl) dX2_granted_21 (fun v4 H locs h hG => ?_)
  refine lv_istore hx hb dX2_granted_24 hl (Nat.le_of_ble_eq_true rfl) (lv' := [(4, .int v4), (3, .int v3), (2, .int v2), (1, .ref sz), (0, .ref b)]) rfl (fun ls hl => ?_)
  obtain ⟨X1, h, hE1, hJ1⟩ := oe1_u h
  have J1 : ∀ (z18 : OS), X1 = Sum.inr z18 → ∀ (H : Heap) (locs : List Loc) (ls : Array Slot), gJK g L0 A s.heap (sG g.2.1 b d (su.1 0) sc σ (oG g.2.1 sz z18 G0)) (sz + 2) H locs → lv_has ls 6 [(1, .ref sz)] → W p l e R s m args below meth c H locs 2 14 Q (F0 m 115 ls []) := by
    intro z18 e0 H locs ls hG hl
    have h := hJ1 z18 e0
    refine lv_aload_n hx hb dX2_granted_115 rfl (lv_at hl 0 rfl) ?_
    have h := Option.some.inj h
    subst h
    exact g_aret hQ (Or.inl ⟨_, rfl⟩) hG (Or.inr ⟨_, rfl⟩) ⟨_, _, rfl, (gx_oG hf1 _), rfl, oG_0 hf1, oG_1 hf1⟩ (Nat.le_of_ble_eq_true rfl) (Nat.le_of_ble_eq_true rfl) dX2_granted_116
  have LL5 : ∀ (n : Nat) (y6 : Int32) (y7 : Int32) (y8 : OS), c_X2_granted_L5 su σ v2 n y6 y7 y8 = some X1 → ∀ (H : Heap) (locs : List Loc) (ls : Array Slot), gJK g L0 A s.heap (sG g.2.1 b d (su.1 0) sc σ (oG g.2.1 sz y8 G0)) (sz + 2) H locs → lv_has ls 6 [(0, .ref b), (1, .ref sz), (2, .int v2), (3, .int y6), (4, .int y7)] → W p l e R s m args below meth c H locs 2 14 Q (F0 m 26 ls []) := by
    intro n
    induction n with
    | zero =>
      intro y6 y7 y8 h
      rw [c_X2_granted_L5] at h
      cases h
    | succ n ihL5 =>
      intro y6 y7 y8 h H locs ls hG hl
      rw [c_X2_granted_L5] at h
      refine lv_iload hx hb dX2_granted_26 (lv_at hl 4 rfl) ?_
      refine gb_if_eq hx hb dX2_granted_28 (tgt := 115) (by decide) h (fun h => ?_) (fun h => ?_)
      · exact J1 _ (Option.some.inj h).symm _ _ _ hG (lv_sub hl [1] rfl)
      · refine lv_aload_n hx hb dX2_granted_31 rfl (lv_at hl 0 rfl) ?_
        refine lv_iload hx hb dX2_granted_32 (lv_at hl 4 rfl) ?_
        refine k_X2_first q820 hF hL0 (hsu.ext (gx_oG hf1 _)) (hsc.ext (gx_oG hf1 _)) hG hl (Nat.le_of_ble_eq_true rfl) (Nat.le_of_ble_eq_true rfl) h ⟨Nat.le_of_ble_eq_true rfl, Nat.le_of_ble_eq_true rfl⟩ (Nat.le_of_ble_eq_true rfl) dX2_granted_34 (fun v9 H locs h hG => ?_)
        refine lv_istore hx hb dX2_granted_37 hl (Nat.le_of_ble_eq_true rfl) (lv' := [(5, .int v9), (0, .ref b), (1, .ref sz), (2, .int v2), (3, .int y6), (4, .int y7)]) rfl (fun ls hl => ?_)
        refine lv_iload hx hb dX2_granted_39 (lv_at hl 5 rfl) ?_
        refine lv_iconst (v := 1) hx hb dX2_granted_41 (by decide) ?_
        refine lv_iload hx hb dX2_granted_42 (lv_at hl 0 rfl) ?_
        refine lv_ishl hx hb dX2_granted_44 ?_
        refine lv_iconst (v := (-1)) hx hb dX2_granted_45 (by decide) ?_
        refine lv_ixor hx hb dX2_granted_46 ?_
        refine lv_iand hx hb dX2_granted_47 ?_
        refine gb_nm h (fun x10 h => ?_)
        refine lv_istore hx hb dX2_granted_48 hl (Nat.le_of_ble_eq_true rfl) (lv' := [(4, .int x10), (5, .int v9), (0, .ref b), (1, .ref sz), (2, .int v2), (3, .int y6)]) rfl (fun ls hl => ?_)
        refine lv_aload_n hx hb dX2_granted_50 rfl (lv_at hl 2 rfl) ?_
        refine g_get hF hG sG_0 (C := RX2) (T := TX2) (N := 26) rfl in_X2 0 (by decide) q589 (fun _ h => h) (v := .ref (su.1 0)) rfl dX2_granted_51 ?_
        refine g_getN hF hG (hsu.ext (gx_oG hf1 _)).1.rd (C := RX3) (T := TX3) (N := 10) rfl in_X3 2 (by decide) q495 (fun _ h => h) (v := .ref (su.1 3)) rfl dX2_granted_54 ?_
        refine lv_iload hx hb dX2_granted_57 (lv_at hl 1 rfl) ?_
        refine ks_need hF (su_of (hsu.ext (gx_oG hf1 _))) hG h dX2_granted_59 (fun v11 h => ?_)
        refine lv_iload_n hx hb dX2_granted_60 rfl (lv_at hl 4 rfl) ?_
        refine lv_iconst (v := (-1)) hx hb dX2_granted_61 (by decide) ?_
        refine lv_ixor hx hb dX2_granted_62 ?_
        refine lv_iand hx hb dX2_granted_63 ?_
        refine gb_if_eq hx hb dX2_granted_64 (tgt := 70) (by decide) h (fun h => ?_) (fun h => ?_)
        · refine lv_iload_n hx hb dX2_granted_70 rfl (lv_at hl 5 rfl) ?_
          refine lv_aload_n hx hb dX2_granted_71 rfl (lv_at hl 2 rfl) ?_
          refine lv_iload hx hb dX2_granted_72 (lv_at hl 1 rfl) ?_
          refine k_X2_expected q816 hF hL0 (hsu.ext (gx_oG hf1 _)) (hsc.ext (gx_oG hf1 _)) hG hl (Nat.le_of_ble_eq_true rfl) (Nat.le_of_ble_eq_true rfl) h ⟨Nat.le_of_ble_eq_true rfl, Nat.le_of_ble_eq_true rfl⟩ (Nat.le_of_ble_eq_true rfl) dX2_granted_74 (fun v12 H locs h hG => ?_)
          refine lv_iadd hx hb dX2_granted_77 ?_
          refine lv_aload_n hx hb dX2_granted_78 rfl (lv_at hl 2 rfl) ?_
          refine g_get hF hG sG_0 (C := RX2) (T := TX2) (N := 26) rfl in_X2 17 (by decide) q618 (fun _ h => h) (v := .int (σ.1 17)) rfl dX2_granted_79 ?_
          obtain ⟨X2, h, hE2, hJ2⟩ := oe2_u h
          have J2 : ∀ (z16 : Int32) (z17 : OS), X2 = Sum.inr (z16, z17) → ∀ (H : Heap) (locs : List Loc) (ls : Array Slot), gJK g L0 A s.heap (sG g.2.1 b d (su.1 0) sc σ (oG g.2.1 sz z17 G0)) (sz + 2) H locs → lv_has ls 6 [(0, .ref b), (1, .ref sz), (2, .int v2), (3, .int z16), (4, .int x10)] → W p l e R s m args below meth c H locs 2 14 Q (F0 m 112 ls []) := by
            intro z16 z17 e0 H locs ls hG hl
            have h := hJ2 z16 z17 e0
            refine lv_goto hx hb dX2_granted_112 (tgt := 26) (by decide) ?_
            exact ihL5 _ _ _ h _ _ _ hG hl
          refine gb_icmp_gt hx hb dX2_granted_82 (tgt := 103) (by decide) h (fun h => ?_) (fun h => ?_)
          · refine lv_aload_n hx hb dX2_granted_103 rfl (lv_at hl 2 rfl) ?_
            refine g_get hF hG sG_0 (C := RX2) (T := TX2) (N := 26) rfl in_X2 25 (by decide) q634 (fun _ h => h) (v := .int (σ.1 25)) rfl dX2_granted_104 ?_
            refine gb_if_eq hx hb dX2_granted_107 (tgt := 112) (by decide) h (fun h => ?_) (fun h => ?_)
            · exact J2 _ _ (Option.some.inj h).symm _ _ _ hG (lv_sub hl [2, 3, 4, 5, 0] rfl)
            · refine lv_aload_n hx hb dX2_granted_110 rfl (lv_at hl 3 rfl) ?_
              have h := hE2 _ (Option.some.inj h).symm
              have h := hE1 _ (Option.some.inj h).symm
              have h := Option.some.inj h
              subst h
              exact g_aret hQ (Or.inl ⟨_, rfl⟩) hG (Or.inr ⟨_, rfl⟩) ⟨_, _, rfl, (gx_oG hf1 _), rfl, oG_0 hf1, oG_1 hf1⟩ (Nat.le_of_ble_eq_true rfl) (Nat.le_of_ble_eq_true rfl) dX2_granted_111
          · refine lv_iload_n hx hb dX2_granted_85 rfl (lv_at hl 5 rfl) ?_
            refine lv_aload_n hx hb dX2_granted_86 rfl (lv_at hl 2 rfl) ?_
            refine lv_iload hx hb dX2_granted_87 (lv_at hl 1 rfl) ?_
            refine k_X2_expected q816 hF hL0 (hsu.ext (gx_oG hf1 _)) (hsc.ext (gx_oG hf1 _)) hG hl (Nat.le_of_ble_eq_true rfl) (Nat.le_of_ble_eq_true rfl) h ⟨Nat.le_of_ble_eq_true rfl, Nat.le_of_ble_eq_true rfl⟩ (Nat.le_of_ble_eq_true rfl) dX2_granted_89 (fun v13 H locs h hG => ?_)
            refine lv_iadd hx hb dX2_granted_92 ?_
            refine gb_nm h (fun x14 h => ?_)
            refine lv_istore_n hx hb dX2_granted_93 rfl hl (Nat.le_of_ble_eq_true rfl) (lv' := [(3, .int x14), (4, .int x10), (5, .int v9), (0, .ref b), (1, .ref sz), (2, .int v2)]) rfl (fun ls hl => ?_)
            refine lv_aload_n hx hb dX2_granted_94 rfl (lv_at hl 4 rfl) ?_
            refine lv_iload hx hb dX2_granted_95 (lv_at hl 2 rfl) ?_
            refine ks_addo q832 hF hL0 hf1 hG hl (Nat.le_of_ble_eq_true rfl) (Nat.le_of_ble_eq_true rfl) h ⟨Nat.le_of_ble_eq_true rfl, Nat.le_of_ble_eq_true rfl⟩ (Nat.le_of_ble_eq_true rfl) dX2_granted_97 (fun r15 H locs h hG => ?_)
            refine lv_goto hx hb dX2_granted_100 (tgt := 112) (by decide) ?_
            exact J2 _ _ (Option.some.inj h).symm _ _ _ hG (lv_sub hl [3, 4, 5, 0, 1] rfl)
        · refine lv_goto hx hb dX2_granted_67 (tgt := 26) (by decide) ?_
          exact ihL5 _ _ _ h _ _ _ hG (lv_sub hl [2, 3, 4, 5, 0] rfl)
  exact LL5 _ _ _ _ h _ _ _ hG (lv_sub hl [4, 3, 2, 1, 0] rfl)
theorem k_X2_granted {own : String} {index : Nat} (hq : (Cond.methodLink own index yX2_granted) ∈ lw_all) (hF : gXK p m c cc nL s args own g A R rm) (hL0 : L0 ≤ b) (hsu : suOK g.2.1 su b d G0) (hsc : suAt b d G0 sc.1 (.inl (g.2.1 0, sc.2.1, .inl sc.2.2))) (hG : gJK g L0 A s.heap (sG g.2.1 b d (su.1 0) sc σ G0) n H locs) (hl : lv_has ls nL lv) (h1 : 7 + 1 ≤ rm.frames) (h2 : 8 + (6 + 11) + 149 ≤ rm.locals) {f : OS → Option γ} (h : ob1 (c_X2_granted su σ) f = some o) (hc : cells + 2 ≤ rm.cells ∧ slots + 14 ≤ rm.slots) (hW : (rest.map fun v => v.category).sum ≤ 8) (hdg : decode cc pc = .ok (.invokevirtual index, 3))
    (kk : ∀ (r : OS) (c' : Nat) (G1 : GH) (n1 : Nat) (H1 : Heap) (locs1 : List Loc), gx G0 G1 → suAt b d G1 c' (.inr (3, [.ref (c' + 1), .int r.2])) → suAt b d G1 (c' + 1) (.inl (g.2.1 0, 12, .inl r.1)) → f r = some o → gJK g L0 A s.heap (sG g.2.1 b d (su.1 0) sc σ G1) n1 H1 locs1 → W p l e R s m args below meth c H1 locs1 (cells + 2) (slots + 14) Q (F0 m (pc + 3) ls (.ref c' :: rest))) : W p l e R s m args below meth c H locs cells slots Q (F0 m pc ls (.ref b :: rest)) := by
  obtain ⟨r, hr, h⟩ := ob1_e h
  refine g_callV hF hG hl sG_0 (C := RX2) (T := TX2) (N := 26) rfl (w_X2_granted hL0 hsu hsc σ hr) (cwV 0 hF.1.2.2.2.2 (lw_V hq q801 q802 q83 q803) rfl rfl rfl (by decide +kernel) (g_room hF h1 h2)) rfl rfl hW hdg (hfA hF.2.2.2.2 hc) (fun v G1 n1 H1 locs1 hR hG1 => ?_)
  obtain ⟨c', G2, rfl, hx, rfl, ho0, ho1⟩ := hR
  exact kk r c' G2 n1 H1 locs1 hx ho0 ho1 h hG1
/-! X2_grants -/
def c_X2_grants_L8 (sc : SC) (r5 : OS) : Nat → Int32 → SS → Option (SS)
  | 0, _, _ => none
  | n + 1, y9, σ10 =>
    if r5.2 ≤ y9 then (
    some σ10)
    else (
    ob1 (rdF 12 r5.1 y9) fun (v11 : Int32) =>
    ob1 (c_X5_send sc σ10 4 v11 (-1)) fun (σ12 : SS) =>
    ob1 (rdF 12 r5.1 y9) fun (v13 : Int32) =>
    ob1 (c_X2_marks σ12 v13 2) fun (σ14 : SS) =>
    nm (y9 + 1) fun (x15 : Int32) =>
    c_X2_grants_L8 sc r5 n x15 σ14)
def c_X2_grants (su : SU) (sc : SC) (σ : SS) : Option (SS) :=
ob1 (c_X2_withMark su σ 1) fun (v1 : Int32) =>
if v1 = 0 then (
some σ)
else (
ob1 (c_X2_granted su σ) fun (r5 : OS) =>
ob1 (
c_X2_grants_L8 sc r5 4096 0 σ) fun (σ16 : SS) =>
some σ16)
set_option maxRecDepth 100000 in
theorem w_X2_grants {l : Launch} {g : gNum} {L0 b d sz : Nat} {su : SU} {sc : SC} {G0 : GH} (hL0 : L0 ≤ b) (hsu : suOK g.2.1 su b d G0) (hsc : suAt b d G0 sc.1 (.inl (g.2.1 0, sc.2.1, .inl sc.2.2))) (σ : SS) {out : SS} (h : c_X2_grants su sc σ = some out) : gMet l yX2_grants (ws_ yX2_grants cX2_grants 3 none) g.1 clX L0 (gK g) [.ref b] (sG g.2.1 b d (su.1 0) sc σ G0) sz 8 174 2 14 (fun v G n => ∃ G1 : GH, v = none ∧ gx G0 G1 ∧ G = sG g.2.1 b d (su.1 0) sc out G1) := by
  refine gMet.of (own := RX2) (gK_ok g) (by decide +kernel) (Nat.le_of_ble_eq_true rfl) rfl ?_
  intro p e R s m args below meth c A Q ls H hF hQ hin hG hl
  have hx := hF.1.1
  have hb := hF.1.2.1
  have hts := hF.1.2.2.2.2
  have hl : lv_has ls 3 [(0, .ref b)] := hl
  unfold c_X2_grants at h
  refine lv_aload_n hx hb dX2_grants_0 rfl (lv_at hl 0 rfl) ?_
  refine lv_iconst (v := 1) hx hb dX2_grants_1 (by decide) ?_
  refine k_X2_withMark q804 hF hL0 hsu hsc hG hl (Nat.le_of_ble_eq_true rfl) (Nat.le_of_ble_eq_true rfl) h ⟨Nat.le_of_ble_eq_true rfl, Nat.le_of_ble_eq_true rfl⟩ (Nat.le_of_ble_eq_true rfl) dX2_grants_2 (fun v1 H locs h hG => ?_)
  refine gb_if_ne hx hb dX2_grants_5 (tgt := 9) (by decide) h (fun h => ?_) (fun h => ?_)
  · refine lv_aload_n hx hb dX2_grants_9 rfl (lv_at hl 0 rfl) ?_
    refine k_X2_granted q1702 hF hL0 hsu hsc hG hl (Nat.le_of_ble_eq_true rfl) (Nat.le_of_ble_eq_true rfl) h ⟨Nat.le_of_ble_eq_true rfl, Nat.le_of_ble_eq_true rfl⟩ (Nat.le_of_ble_eq_true rfl) dX2_grants_10 (fun r5 a6 G2 n3 H locs hx4 ho7_0 ho7_1 h hG => ?_)
    have hsu := hsu.ext hx4
    have hsc := hsc.ext hx4
    have hgx := (gx_rfl (G := G0)).tr hx4
    refine lv_astore_n hx hb dX2_grants_13 rfl hl (Nat.le_of_ble_eq_true rfl) (lv' := [(1, .ref a6), (0, .ref b)]) rfl (fun ls hl => ?_)
    refine lv_iconst (v := 0) hx hb dX2_grants_14 (by decide) ?_
    refine lv_istore_n hx hb dX2_grants_15 rfl hl (Nat.le_of_ble_eq_true rfl) (lv' := [(2, .int 0), (1, .ref a6), (0, .ref b)]) rfl (fun ls hl => ?_)
    obtain ⟨X1, h, hJ1⟩ := ob1_u h
    have J1 : ∀ (σ16 : SS), X1 = σ16 → ∀ (H : Heap) (locs : List Loc) (ls : Array Slot), gJK g L0 A s.heap (sG g.2.1 b d (su.1 0) sc σ16 G2) n3 H locs → lv_has ls 3 [] → W p l e R s m args below meth c H locs 2 14 Q (F0 m 56 ls []) := by
      intro σ16 e0 H locs ls hG hl
      have h := hJ1 σ16 e0
      have h := Option.some.inj h
      subst h
      exact g_vret hQ hG ⟨_, rfl, hgx, rfl⟩ (Nat.le_of_ble_eq_true rfl) (Nat.le_of_ble_eq_true rfl) dX2_grants_56
    have LL8 : ∀ (n : Nat) (y9 : Int32) (σ10 : SS), c_X2_grants_L8 sc r5 n y9 σ10 = some X1 → ∀ (H : Heap) (locs : List Loc) (ls : Array Slot), gJK g L0 A s.heap (sG g.2.1 b d (su.1 0) sc σ10 G2) n3 H locs → lv_has ls 3 [(0, .ref b), (1, .ref a6), (2, .int y9)] → W p l e R s m args below meth c H locs 2 14 Q (F0 m 16 ls []) := by
      intro n
      induction n with
      | zero =>
        intro y9 σ10 h
        rw [c_X2_grants_L8] at h
        cases h
      | succ n ihL8 =>
        intro y9 σ10 h H locs ls hG hl
        rw [c_X2_grants_L8] at h
        refine lv_iload_n hx hb dX2_grants_16 rfl (lv_at hl 2 rfl) ?_
        refine lv_aload_n hx hb dX2_grants_17 rfl (lv_at hl 1 rfl) ?_
        refine g_getN hF hG ho7_0.rd (C := RX4) (T := TX4) (N := 2) rfl in_X4 1 (by decide) q553 (fun _ h => h) (v := .int r5.2) rfl dX2_grants_18 ?_
        refine gb_icmp_ge hx hb dX2_grants_21 (tgt := 56) (by decide) h (fun h => ?_) (fun h => ?_)
        · exact J1 _ (Option.some.inj h).symm _ _ _ hG (lv_sub hl [] rfl)
        · refine lv_aload_n hx hb dX2_grants_24 rfl (lv_at hl 0 rfl) ?_
          refine g_get hF hG sG_0 (C := RX2) (T := TX2) (N := 26) rfl in_X2 9 (by decide) q606 (fun _ h => h) (v := .ref (b + d + 14)) rfl dX2_grants_25 ?_
          refine lv_iconst (v := 4) hx hb dX2_grants_28 (by decide) ?_
          refine lv_aload_n hx hb dX2_grants_29 rfl (lv_at hl 1 rfl) ?_
          refine g_getN hF hG ho7_0.rd (C := RX4) (T := TX4) (N := 2) rfl in_X4 0 (by decide) q551 (fun _ h => h) (v := .ref (a6 + 1)) rfl dX2_grants_30 ?_
          refine lv_iload_n hx hb dX2_grants_33 rfl (lv_at hl 2 rfl) ?_
          refine c_iald hF hG ho7_1.rd h dX2_grants_34 (fun v11 h => ?_)
          refine lv_iconst (v := (-1)) hx hb dX2_grants_35 (by decide) ?_
          refine k_X5_send q1689 hF hL0 hsu hsc hG hl (Nat.le_of_ble_eq_true rfl) (Nat.le_of_ble_eq_true rfl) h ⟨Nat.le_of_ble_eq_true rfl, Nat.le_of_ble_eq_true rfl⟩ (Nat.le_of_ble_eq_true rfl) dX2_grants_36 (fun σ12 H locs h hG => ?_)
          refine lv_aload_n hx hb dX2_grants_39 rfl (lv_at hl 0 rfl) ?_
          refine lv_aload_n hx hb dX2_grants_40 rfl (lv_at hl 1 rfl) ?_
          refine g_getN hF hG ho7_0.rd (C := RX4) (T := TX4) (N := 2) rfl in_X4 0 (by decide) q551 (fun _ h => h) (v := .ref (a6 + 1)) rfl dX2_grants_41 ?_
          refine lv_iload_n hx hb dX2_grants_44 rfl (lv_at hl 2 rfl) ?_
          refine c_iald hF hG ho7_1.rd h dX2_grants_45 (fun v13 h => ?_)
          refine lv_iconst (v := 2) hx hb dX2_grants_46 (by decide) ?_
          refine k_X2_marks q1676 hF hL0 hsu hsc hG hl (Nat.le_of_ble_eq_true rfl) (Nat.le_of_ble_eq_true rfl) h ⟨Nat.le_of_ble_eq_true rfl, Nat.le_of_ble_eq_true rfl⟩ (Nat.le_of_ble_eq_true rfl) dX2_grants_47 (fun σ14 H locs h hG => ?_)
          refine gb_iinc (k' := 1) hx hb dX2_grants_50 hl (k := 2) rfl (by decide) (Nat.le_of_ble_eq_true rfl) h (fun x15 ls h hl => ?_)
          have hl : lv_has ls 3 [(2, .int x15), (0, .ref b), (1, .ref a6)] := hl
          refine lv_goto hx hb dX2_grants_53 (tgt := 16) (by decide) ?_
          exact ihL8 _ _ h _ _ _ hG (lv_sub hl [1, 2, 0] rfl)
    exact LL8 _ _ _ h _ _ _ hG (lv_sub hl [2, 1, 0] rfl)
  · have h := Option.some.inj h
    subst h
    exact g_vret hQ hG ⟨_, rfl, gx_rfl, rfl⟩ (Nat.le_of_ble_eq_true rfl) (Nat.le_of_ble_eq_true rfl) dX2_grants_8
theorem k_X2_grants {own : String} {index : Nat} (hq : (Cond.methodLink own index yX2_grants) ∈ lw_all) (hF : gXK p m c cc nL s args own g A R rm) (hL0 : L0 ≤ b) (hsu : suOK g.2.1 su b d G0) (hsc : suAt b d G0 sc.1 (.inl (g.2.1 0, sc.2.1, .inl sc.2.2))) (hG : gJK g L0 A s.heap (sG g.2.1 b d (su.1 0) sc σ G0) n H locs) (hl : lv_has ls nL lv) (h1 : 8 + 1 ≤ rm.frames) (h2 : 8 + (3 + 11) + 174 ≤ rm.locals) {f : SS → Option γ} (h : ob1 (c_X2_grants su sc σ) f = some o) (hc : cells + 2 ≤ rm.cells ∧ slots + 14 ≤ rm.slots) (hW : (rest.map fun v => v.category).sum ≤ 8) (hdg : decode cc pc = .ok (.invokevirtual index, 3))
    (kk : ∀ (σ1 : SS) (G1 : GH) (n1 : Nat) (H1 : Heap) (locs1 : List Loc), gx G0 G1 → f σ1 = some o → gJK g L0 A s.heap (sG g.2.1 b d (su.1 0) sc σ1 G1) n1 H1 locs1 → W p l e R s m args below meth c H1 locs1 (cells + 2) (slots + 14) Q (F0 m (pc + 3) ls rest)) : W p l e R s m args below meth c H locs cells slots Q (F0 m pc ls (.ref b :: rest)) := by
  obtain ⟨r, hr, h⟩ := ob1_e h
  refine g_callV hF hG hl sG_0 (C := RX2) (T := TX2) (N := 26) rfl (w_X2_grants hL0 hsu hsc σ hr) (cwV 0 hF.1.2.2.2.2 (lw_V hq q1700 qs34 q83 q1701) rfl rfl rfl (by decide +kernel) (g_room hF h1 h2)) rfl rfl hW hdg (hfA hF.2.2.2.2 hc) (fun v G1 n1 H1 locs1 hR hG1 => ?_)
  obtain ⟨G2, rfl, hx, rfl⟩ := hR
  exact kk r G2 n1 H1 locs1 hx h hG1
/-! X2_passes -/
def c_X2_passes_L1 (su : SU) : Nat → Int32 → Int32 → SS → Option (Int32 × Int32 × SS)
  | 0, _, _, _ => none
  | n + 1, y2, y3, σ4 =>
    if (D_has su y2) = 0 then (
    some (y2, y3, σ4))
    else (
    ob1 (D_next su y2) fun (k5 : Nat) =>
    ob1 (
    if (su.2.2.2.2.2.1 k5 0) = (σ4.1 19) then (
    ob1 (c_X2_blackout su σ4 (su.2.2.2.2.2.1 k5 1)) fun (σ6 : SS) =>
    some σ6)
    else (
    some σ4)) fun (σ7 : SS) =>
    c_X2_passes_L1 su n (y2 + 1) y2 σ7)
def c_X2_passes_L13 (su : SU) (sc : SC) : Nat → Int32 → SS → Option (SS)
  | 0, _, _ => none
  | n + 1, y14, σ15 =>
    if (U_n su) ≤ y14 then (
    some σ15)
    else (
    ob1 (c_X2_acts sc σ15 y14) fun (σ16 : SS) =>
    nm (y14 + 1) fun (x17 : Int32) =>
    c_X2_passes_L13 su sc n x17 σ16)
def c_X2_passes (su : SU) (sc : SC) (σ : SS) : Option (SS) :=
ob3 (
c_X2_passes_L1 su 4096 0 (-1) σ) fun (z8 : Int32) (z9 : Int32) (σ10 : SS) =>
ob1 (c_X2_isDark σ10) fun (v11 : Int32) =>
if v11 = 0 then (
ob1 (c_X2_receives su σ10) fun (σ12 : SS) =>
ob1 (
c_X2_passes_L13 su sc 4096 0 σ12) fun (σ18 : SS) =>
ob1 (c_X2_polls su sc σ18) fun (σ19 : SS) =>
ob1 (c_X2_grants su sc σ19) fun (σ23 : SS) =>
ob1 (c_X2_measures su σ23) fun (σ24 : SS) =>
some σ24)
else (
nm (S_sf σ10 24 0) fun (σ25 : SS) =>
nm (S_sf σ25 19 ((σ25.1 19) + 1)) fun (σ26 : SS) =>
some σ26)
set_option maxRecDepth 100000 in
theorem w_X2_passes {l : Launch} {g : gNum} {L0 b d sz : Nat} {su : SU} {sc : SC} {G0 : GH} (hL0 : L0 ≤ b) (hsu : suOK g.2.1 su b d G0) (hsc : suAt b d G0 sc.1 (.inl (g.2.1 0, sc.2.1, .inl sc.2.2))) (σ : SS) {out : SS} (h : c_X2_passes su sc σ = some out) : gMet l yX2_passes (ws_ yX2_passes cX2_passes 3 none) g.1 clX L0 (gK g) [.ref b] (sG g.2.1 b d (su.1 0) sc σ G0) sz 9 196 3 18 (fun v G n => ∃ G1 : GH, v = none ∧ gx G0 G1 ∧ G = sG g.2.1 b d (su.1 0) sc out G1) := by
  refine gMet.of (own := RX2) (gK_ok g) (by decide +kernel) (Nat.le_of_ble_eq_true rfl) rfl ?_
  intro p e R s m args below meth c A Q ls H hF hQ hin hG hl
  have hx := hF.1.1
  have hb := hF.1.2.1
  have hts := hF.1.2.2.2.2
  have hl : lv_has ls 3 [(0, .ref b)] := hl
  unfold c_X2_passes at h
  refine lv_aload_n hx hb dX2_passes_0 rfl (lv_at hl 0 rfl) ?_
  refine g_get hF hG sG_0 (C := RX2) (T := TX2) (N := 26) rfl in_X2 0 (by decide) q589 (fun _ h => h) (v := .ref (su.1 0)) rfl dX2_passes_1 ?_
  refine g_getN hF hG hsu.1.rd (C := RX3) (T := TX3) (N := 10) rfl in_X3 1 (by decide) q493 (fun _ h => h) (v := .ref (su.1 2)) rfl dX2_passes_4 ?_
  refine ks_iter q1597 hF hL0 hsu hG hl (Nat.le_of_ble_eq_true rfl) (Nat.le_of_ble_eq_true rfl) ⟨Nat.le_of_ble_eq_true rfl, Nat.le_of_ble_eq_true rfl⟩ (Nat.le_of_ble_eq_true rfl) dX2_passes_7 (fun H locs hf1 hG => ?_)
  refine lv_astore_n hx hb dX2_passes_12 rfl hl (Nat.le_of_ble_eq_true rfl) (lv' := [(1, .ref sz), (0, .ref b)]) rfl (fun ls hl => ?_)
  obtain ⟨X1, h, hJ1⟩ := ob3_u h
  have J1 : ∀ (z8 : Int32) (z9 : Int32) (σ10 : SS), X1 = (z8, z9, σ10) → ∀ (H : Heap) (locs : List Loc) (ls : Array Slot), gJK g L0 A s.heap (sG g.2.1 b d (su.1 0) sc σ10 (iG sz z8 z9 (su.2.1 11) (su.1 2) G0)) (sz + 1) H locs → lv_has ls 3 [(0, .ref b)] → W p l e R s m args below meth c H locs 1 4 Q (F0 m 54 ls []) := by
    intro z8 z9 σ10 e0 H locs ls hG hl
    have h := hJ1 z8 z9 σ10 e0
    refine lv_aload_n hx hb dX2_passes_54 rfl (lv_at hl 0 rfl) ?_
    refine k_X2_isDark q1667 hF hL0 (hsu.ext (gx_iG hf1)) (hsc.ext (gx_iG hf1)) hG hl (Nat.le_of_ble_eq_true rfl) (Nat.le_of_ble_eq_true rfl) h ⟨Nat.le_of_ble_eq_true rfl, Nat.le_of_ble_eq_true rfl⟩ (Nat.le_of_ble_eq_true rfl) dX2_passes_55 (fun v11 H locs h hG => ?_)
    refine gb_if_eq hx hb dX2_passes_58 (tgt := 77) (by decide) h (fun h => ?_) (fun h => ?_)
    · refine lv_aload_n hx hb dX2_passes_77 rfl (lv_at hl 0 rfl) ?_
      refine k_X2_receives q1668 hF hL0 (hsu.ext (gx_iG hf1)) (hsc.ext (gx_iG hf1)) hG hl (Nat.le_of_ble_eq_true rfl) (Nat.le_of_ble_eq_true rfl) h ⟨Nat.le_of_ble_eq_true rfl, Nat.le_of_ble_eq_true rfl⟩ (Nat.le_of_ble_eq_true rfl) dX2_passes_78 (fun σ12 H locs h hG => ?_)
      refine lv_iconst (v := 0) hx hb dX2_passes_81 (by decide) ?_
      refine lv_istore_n hx hb dX2_passes_82 rfl hl (Nat.le_of_ble_eq_true rfl) (lv' := [(1, .int 0), (0, .ref b)]) rfl (fun ls hl => ?_)
      obtain ⟨X2, h, hJ2⟩ := ob1_u h
      have J2 : ∀ (σ18 : SS), X2 = σ18 → ∀ (H : Heap) (locs : List Loc) (ls : Array Slot), gJK g L0 A s.heap (sG g.2.1 b d (su.1 0) sc σ18 (iG sz z8 z9 (su.2.1 11) (su.1 2) G0)) (sz + 1) H locs → lv_has ls 3 [(0, .ref b)] → W p l e R s m args below meth c H locs 1 4 Q (F0 m 105 ls []) := by
        intro σ18 e0 H locs ls hG hl
        have h := hJ2 σ18 e0
        refine lv_aload_n hx hb dX2_passes_105 rfl (lv_at hl 0 rfl) ?_
        refine k_X2_polls q1694 hF hL0 (hsu.ext (gx_iG hf1)) (hsc.ext (gx_iG hf1)) hG hl (Nat.le_of_ble_eq_true rfl) (Nat.le_of_ble_eq_true rfl) h ⟨Nat.le_of_ble_eq_true rfl, Nat.le_of_ble_eq_true rfl⟩ (Nat.le_of_ble_eq_true rfl) dX2_passes_106 (fun σ19 H locs h hG => ?_)
        refine lv_aload_n hx hb dX2_passes_109 rfl (lv_at hl 0 rfl) ?_
        refine k_X2_grants q1698 hF hL0 (hsu.ext (gx_iG hf1)) (hsc.ext (gx_iG hf1)) hG hl (Nat.le_of_ble_eq_true rfl) (Nat.le_of_ble_eq_true rfl) h ⟨Nat.le_of_ble_eq_true rfl, Nat.le_of_ble_eq_true rfl⟩ (Nat.le_of_ble_eq_true rfl) dX2_passes_110 (fun σ23 G20 n21 H locs hx22 h hG => ?_)
        have hsu := (hsu.ext (gx_iG hf1)).ext hx22
        have hsc := (hsc.ext (gx_iG hf1)).ext hx22
        have hgx := (gx_iG hf1).tr hx22
        refine lv_aload_n hx hb dX2_passes_113 rfl (lv_at hl 0 rfl) ?_
        refine k_X2_measures q1703 hF hL0 hsu hsc hG hl (Nat.le_of_ble_eq_true rfl) (Nat.le_of_ble_eq_true rfl) h ⟨Nat.le_of_ble_eq_true rfl, Nat.le_of_ble_eq_true rfl⟩ (Nat.le_of_ble_eq_true rfl) dX2_passes_114 (fun σ24 H locs h hG => ?_)
        have h := Option.some.inj h
        subst h
        exact g_vret hQ hG ⟨_, rfl, hgx, rfl⟩ (Nat.le_of_ble_eq_true rfl) (Nat.le_of_ble_eq_true rfl) dX2_passes_117
      have LL13 : ∀ (n : Nat) (y14 : Int32) (σ15 : SS), c_X2_passes_L13 su sc n y14 σ15 = some X2 → ∀ (H : Heap) (locs : List Loc) (ls : Array Slot), gJK g L0 A s.heap (sG g.2.1 b d (su.1 0) sc σ15 (iG sz z8 z9 (su.2.1 11) (su.1 2) G0)) (sz + 1) H locs → lv_has ls 3 [(0, .ref b), (1, .int y14)] → W p l e R s m args below meth c H locs 1 4 Q (F0 m 83 ls []) := by
        intro n
        induction n with
        | zero =>
          intro y14 σ15 h
          rw [c_X2_passes_L13] at h
          cases h
        | succ n ihL13 =>
          intro y14 σ15 h H locs ls hG hl
          rw [c_X2_passes_L13] at h
          refine lv_iload_n hx hb dX2_passes_83 rfl (lv_at hl 1 rfl) ?_
          refine lv_aload_n hx hb dX2_passes_84 rfl (lv_at hl 0 rfl) ?_
          refine g_get hF hG sG_0 (C := RX2) (T := TX2) (N := 26) rfl in_X2 0 (by decide) q589 (fun _ h => h) (v := .ref (su.1 0)) rfl dX2_passes_85 ?_
          refine ks_size q693 hF (su_of (hsu.ext (gx_iG hf1))) hG hl (Nat.le_of_ble_eq_true rfl) (Nat.le_of_ble_eq_true rfl) ⟨Nat.le_of_ble_eq_true rfl, Nat.le_of_ble_eq_true rfl⟩ (Nat.le_of_ble_eq_true rfl) dX2_passes_88 (fun H locs hG => ?_)
          refine gb_icmp_ge hx hb dX2_passes_91 (tgt := 105) (by decide) h (fun h => ?_) (fun h => ?_)
          · exact J2 _ (Option.some.inj h).symm _ _ _ hG (lv_sub hl [0] rfl)
          · refine lv_aload_n hx hb dX2_passes_94 rfl (lv_at hl 0 rfl) ?_
            refine lv_iload_n hx hb dX2_passes_95 rfl (lv_at hl 1 rfl) ?_
            refine k_X2_acts q1685 hF hL0 (hsu.ext (gx_iG hf1)) (hsc.ext (gx_iG hf1)) hG hl (Nat.le_of_ble_eq_true rfl) (Nat.le_of_ble_eq_true rfl) h ⟨Nat.le_of_ble_eq_true rfl, Nat.le_of_ble_eq_true rfl⟩ (Nat.le_of_ble_eq_true rfl) dX2_passes_96 (fun σ16 H locs h hG => ?_)
            refine gb_iinc (k' := 1) hx hb dX2_passes_99 hl (k := 1) rfl (by decide) (Nat.le_of_ble_eq_true rfl) h (fun x17 ls h hl => ?_)
            have hl : lv_has ls 3 [(1, .int x17), (0, .ref b)] := hl
            refine lv_goto hx hb dX2_passes_102 (tgt := 83) (by decide) ?_
            exact ihL13 _ _ h _ _ _ hG (lv_sub hl [1, 0] rfl)
      exact LL13 _ _ _ h _ _ _ hG (lv_sub hl [1, 0] rfl)
    · refine lv_aload_n hx hb dX2_passes_61 rfl (lv_at hl 0 rfl) ?_
      refine lv_iconst (v := 0) hx hb dX2_passes_62 (by decide) ?_
      refine s_putI hF hL0 hG 24 (by decide) ⟨rfl, rfl, rfl⟩ q632 h dX2_passes_63 (fun σ25 H locs h hG => ?_)
      refine lv_aload_n hx hb dX2_passes_66 rfl (lv_at hl 0 rfl) ?_
      refine lv_dup hx hb dX2_passes_67 rfl ?_
      refine g_get hF hG sG_0 (C := RX2) (T := TX2) (N := 26) rfl in_X2 19 (by decide) q622 (fun _ h => h) (v := .int (σ25.1 19)) rfl dX2_passes_68 ?_
      refine lv_iconst (v := 1) hx hb dX2_passes_71 (by decide) ?_
      refine lv_iadd hx hb dX2_passes_72 ?_
      refine s_putI hF hL0 hG 19 (by decide) ⟨rfl, rfl, rfl⟩ q622 h dX2_passes_73 (fun σ26 H locs h hG => ?_)
      have h := Option.some.inj h
      subst h
      exact g_vret hQ hG ⟨_, rfl, (gx_iG hf1), rfl⟩ (Nat.le_of_ble_eq_true rfl) (Nat.le_of_ble_eq_true rfl) dX2_passes_76
  have LL1 : ∀ (n : Nat) (y2 : Int32) (y3 : Int32) (σ4 : SS), c_X2_passes_L1 su n y2 y3 σ4 = some X1 → ∀ (H : Heap) (locs : List Loc) (ls : Array Slot), gJK g L0 A s.heap (sG g.2.1 b d (su.1 0) sc σ4 (iG sz y2 y3 (su.2.1 11) (su.1 2) G0)) (sz + 1) H locs → lv_has ls 3 [(0, .ref b), (1, .ref sz)] → W p l e R s m args below meth c H locs 1 4 Q (F0 m 13 ls []) := by
    intro n
    induction n with
    | zero =>
      intro y2 y3 σ4 h
      rw [c_X2_passes_L1] at h
      cases h
    | succ n ihL1 =>
      intro y2 y3 σ4 h H locs ls hG hl
      rw [c_X2_passes_L1] at h
      refine lv_aload_n hx hb dX2_passes_13 rfl (lv_at hl 1 rfl) ?_
      refine ks_hasNext q1625 hF (hsu.ext (gx_iG hf1)) hf1 hG hl (Nat.le_of_ble_eq_true rfl) (Nat.le_of_ble_eq_true rfl) ⟨Nat.le_of_ble_eq_true rfl, Nat.le_of_ble_eq_true rfl⟩ (Nat.le_of_ble_eq_true rfl) dX2_passes_14 (fun H locs hG => ?_)
      refine gb_if_eq hx hb dX2_passes_19 (tgt := 54) (by decide) h (fun h => ?_) (fun h => ?_)
      · exact J1 _ _ _ (Option.some.inj h).symm _ _ _ hG (lv_sub hl [0] rfl)
      · refine lv_aload_n hx hb dX2_passes_22 rfl (lv_at hl 1 rfl) ?_
        refine ks_next q1635 q1649 hF hL0 (fun _ _ => hsu.ext (gx_iG hf1)) hf1 hG hl (Nat.le_of_ble_eq_true rfl) (Nat.le_of_ble_eq_true rfl) h ⟨Nat.le_of_ble_eq_true rfl, Nat.le_of_ble_eq_true rfl⟩ (Nat.le_of_ble_eq_true rfl) dX2_passes_23 dX2_passes_28 (fun k5 H locs hk_k5 h hG => ?_)
        refine lv_astore_n hx hb dX2_passes_31 rfl hl (Nat.le_of_ble_eq_true rfl) (lv' := [(2, .ref (su.2.2.2.1 k5)), (0, .ref b), (1, .ref sz)]) rfl (fun ls hl => ?_)
        refine lv_aload_n hx hb dX2_passes_32 rfl (lv_at hl 0 rfl) ?_
        refine ks_dtick q1650 hF (su_of (hsu.ext (gx_iG hf1))) hG hl (Nat.le_of_ble_eq_true rfl) (Nat.le_of_ble_eq_true rfl) hk_k5 ⟨Nat.le_of_ble_eq_true rfl, Nat.le_of_ble_eq_true rfl⟩ (Nat.le_of_ble_eq_true rfl) dX2_passes_33 (fun H locs hG => ?_)
        refine lv_aload_n hx hb dX2_passes_36 rfl (lv_at hl 1 rfl) ?_
        refine g_get hF hG sG_0 (C := RX2) (T := TX2) (N := 26) rfl in_X2 19 (by decide) q622 (fun _ h => h) (v := .int (σ4.1 19)) rfl dX2_passes_37 ?_
        obtain ⟨X3, h, hJ3⟩ := ob1_u h
        have J3 : ∀ (σ7 : SS), X3 = σ7 → ∀ (H : Heap) (locs : List Loc) (ls : Array Slot), gJK g L0 A s.heap (sG g.2.1 b d (su.1 0) sc σ7 (iG sz (y2 + 1) y2 (su.2.1 11) (su.1 2) G0)) (sz + 1) H locs → lv_has ls 3 [(0, .ref b), (1, .ref sz)] → W p l e R s m args below meth c H locs 1 4 Q (F0 m 51 ls []) := by
          intro σ7 e0 H locs ls hG hl
          have h := hJ3 σ7 e0
          refine lv_goto hx hb dX2_passes_51 (tgt := 13) (by decide) ?_
          exact ihL1 _ _ _ h _ _ _ hG hl
        refine gb_icmp_ne hx hb dX2_passes_40 (tgt := 51) (by decide) h (fun h => ?_) (fun h => ?_)
        · exact J3 _ (Option.some.inj h).symm _ _ _ hG (lv_sub hl [1, 2] rfl)
        · refine lv_aload_n hx hb dX2_passes_43 rfl (lv_at hl 1 rfl) ?_
          refine lv_aload_n hx hb dX2_passes_44 rfl (lv_at hl 0 rfl) ?_
          refine ks_ddur q1654 hF (su_of (hsu.ext (gx_iG hf1))) hG hl (Nat.le_of_ble_eq_true rfl) (Nat.le_of_ble_eq_true rfl) hk_k5 ⟨Nat.le_of_ble_eq_true rfl, Nat.le_of_ble_eq_true rfl⟩ (Nat.le_of_ble_eq_true rfl) dX2_passes_45 (fun H locs hG => ?_)
          refine k_X2_blackout q1658 hF hL0 (hsu.ext (gx_iG hf1)) (hsc.ext (gx_iG hf1)) hG hl (Nat.le_of_ble_eq_true rfl) (Nat.le_of_ble_eq_true rfl) h ⟨Nat.le_of_ble_eq_true rfl, Nat.le_of_ble_eq_true rfl⟩ (Nat.le_of_ble_eq_true rfl) dX2_passes_48 (fun σ6 H locs h hG => ?_)
          exact J3 _ (Option.some.inj h).symm _ _ _ hG (lv_sub hl [1, 2] rfl)
  exact LL1 _ _ _ _ h _ _ _ hG (lv_sub hl [1, 0] rfl)
theorem k_X2_passes {own : String} {index : Nat} (hq : (Cond.methodLink own index yX2_passes) ∈ lw_all) (hF : gXK p m c cc nL s args own g A R rm) (hL0 : L0 ≤ b) (hsu : suOK g.2.1 su b d G0) (hsc : suAt b d G0 sc.1 (.inl (g.2.1 0, sc.2.1, .inl sc.2.2))) (hG : gJK g L0 A s.heap (sG g.2.1 b d (su.1 0) sc σ G0) n H locs) (hl : lv_has ls nL lv) (h1 : 9 + 1 ≤ rm.frames) (h2 : 8 + (3 + 11) + 196 ≤ rm.locals) {f : SS → Option γ} (h : ob1 (c_X2_passes su sc σ) f = some o) (hc : cells + 3 ≤ rm.cells ∧ slots + 18 ≤ rm.slots) (hW : (rest.map fun v => v.category).sum ≤ 8) (hdg : decode cc pc = .ok (.invokevirtual index, 3))
    (kk : ∀ (σ1 : SS) (G1 : GH) (n1 : Nat) (H1 : Heap) (locs1 : List Loc), gx G0 G1 → f σ1 = some o → gJK g L0 A s.heap (sG g.2.1 b d (su.1 0) sc σ1 G1) n1 H1 locs1 → W p l e R s m args below meth c H1 locs1 (cells + 3) (slots + 18) Q (F0 m (pc + 3) ls rest)) : W p l e R s m args below meth c H locs cells slots Q (F0 m pc ls (.ref b :: rest)) := by
  obtain ⟨r, hr, h⟩ := ob1_e h
  refine g_callV hF hG hl sG_0 (C := RX2) (T := TX2) (N := 26) rfl (w_X2_passes hL0 hsu hsc σ hr) (cwV 0 hF.1.2.2.2.2 (lw_V hq q1593 q1594 q83 q1595) rfl rfl rfl (by decide +kernel) (g_room hF h1 h2)) rfl rfl hW hdg (hfA hF.2.2.2.2 hc) (fun v G1 n1 H1 locs1 hR hG1 => ?_)
  obtain ⟨G2, rfl, hx, rfl⟩ := hR
  exact kk r G2 n1 H1 locs1 hx h hG1
end CC
