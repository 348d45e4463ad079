section TT
variable {p : Program} {l : Launch} {e : Env} {R : Room} {s : State} {m : MethodId} {args : Array Value} {below : List Frame} {meth : Method} {c : Code} {H : Heap} {locs : List Loc} {cells slots : Nat} {Q : State → Prop}
variable {cc : ByteArray} {pc : Nat} {ls : Array Slot} {rest : List Value} {D : va_G} {A : Nat → Prop} {L0 n nL : Nat} {K : gKT} {rm : Room} {lv : List (Nat × Value)}
variable {dA : Nat → ClassId} {b : Nat} {σ : TS} {G0 : GH}
/-! laysThen -/
def t_X6_laysThen_L1 : Nat → Int32 → TS → Option (TS)
  | 0, _, _ => none
  | n + 1, y2, σ3 =>
    if 411 ≤ y2 then (
    some σ3)
    else (
    ob1 (T_rd σ3 6 y2) fun (v4 : Int32) =>
    ob1 (T_wr σ3 7 y2 v4) fun (σ5 : TS) =>
    nm (y2 + 1) fun (x6 : Int32) =>
    t_X6_laysThen_L1 n x6 σ5)
def t_X6_laysThen (σ : TS) : Option (TS) :=
ob1 (
t_X6_laysThen_L1 4096 0 σ) fun (σ7 : TS) =>
some σ7
set_option maxRecDepth 100000 in
theorem w_X6_laysThen {l : Launch} {D : va_G} {dA : Nat → ClassId} {K : gKT} {L0 b sz : Nat} {G0 : GH} (hKo : gKo D clX (tyA dA) K) (hL0 : L0 ≤ b) (σ : TS)  {out : TS} (h : t_X6_laysThen σ = some out) : gMet l yX6_laysThen (ws_ yX6_laysThen cX6_laysThen 2 none) D clX L0 K [.ref b] (twG dA b σ G0) sz 0 0 0 0 (twRV dA b out G0 sz) := by
  refine gMet.of (own := RX6) hKo (by decide +kernel) (Nat.le_of_ble_eq_true rfl) rfl ?_
  intro p e R s m args below meth c A Q ls H hF hQ hin hG hl
  have hx := hF.1.1
  have hb := hF.1.2.1
  have hts := hF.1.2.2.2.2
  have hl : lv_has ls 2 [(0, .ref b)] := hl
  unfold t_X6_laysThen at h
  refine lv_iconst (v := 0) hx hb dX6_laysThen_0 (by decide) ?_
  refine lv_istore_n hx hb dX6_laysThen_1 rfl hl (Nat.le_of_ble_eq_true rfl) (lv' := [(1, .int 0), (0, .ref b)]) rfl (fun ls hl => ?_)
  obtain ⟨X1, h, hJ1⟩ := ob1_u h
  have J1 : ∀ (σ7 : TS), X1 = σ7 → ∀ (H : Heap) (locs : List Loc) (ls : Array Slot), gJ D clX L0 A s.heap (twG dA b σ7 G0) sz H locs → lv_has ls 2 [] → W p l e R s m args below meth c H locs 0 0 Q (F0 m 27 ls []) := by
    intro σ7 e0 H locs ls hG hl
    have h := hJ1 σ7 e0
    have h := Option.some.inj h
    subst h
    exact g_vret hQ hG ⟨rfl, rfl, rfl⟩ (Nat.le_refl _) (Nat.le_refl _) dX6_laysThen_27
  have LL1 : ∀ (n : Nat) (y2 : Int32) (σ3 : TS), t_X6_laysThen_L1 n y2 σ3 = some X1 → ∀ (H : Heap) (locs : List Loc) (ls : Array Slot), gJ D clX L0 A s.heap (twG dA b σ3 G0) sz H locs → lv_has ls 2 [(0, .ref b), (1, .int y2)] → W p l e R s m args below meth c H locs 0 0 Q (F0 m 2 ls []) := by
    intro n
    induction n with
    | zero =>
      intro y2 σ3 h
      rw [t_X6_laysThen_L1] at h
      cases h
    | succ n ihL1 =>
      intro y2 σ3 h H locs ls hG hl
      rw [t_X6_laysThen_L1] at h
      refine lv_iload_n hx hb dX6_laysThen_2 rfl (lv_at hl 1 rfl) ?_
      refine lv_sipush (v := 411) hx hb dX6_laysThen_3 (by decide) ?_
      refine gb_icmp_ge hx hb dX6_laysThen_6 (tgt := 27) (by decide) h (fun h => ?_) (fun h => ?_)
      · exact J1 _ (Option.some.inj h).symm _ _ _ hG (lv_sub hl [] rfl)
      · refine lv_aload_n hx hb dX6_laysThen_9 rfl (lv_at hl 0 rfl) ?_
        refine tw_getR hF hG 11 7 (by decide) q1844 rfl dX6_laysThen_10 ?_
        refine lv_iload_n hx hb dX6_laysThen_13 rfl (lv_at hl 1 rfl) ?_
        refine lv_aload_n hx hb dX6_laysThen_14 rfl (lv_at hl 0 rfl) ?_
        refine tw_getR hF hG 10 6 (by decide) q1843 rfl dX6_laysThen_15 ?_
        refine lv_iload_n hx hb dX6_laysThen_18 rfl (lv_at hl 1 rfl) ?_
        refine tw_rd hF hG (j := 6) (by decide) h dX6_laysThen_19 (fun v4 h => ?_)
        refine tw_wr hF hL0 hG (j := 7) (by decide) h dX6_laysThen_20 (fun σ5 H locs h hG => ?_)
        refine gb_iinc (k' := 1) hx hb dX6_laysThen_21 hl (k := 1) rfl (by decide) (Nat.le_of_ble_eq_true rfl) h (fun x6 ls h hl => ?_)
        have hl : lv_has ls 2 [(1, .int x6), (0, .ref b)] := hl
        refine lv_goto hx hb dX6_laysThen_24 (tgt := 2) (by decide) ?_
        exact ihL1 _ _ h _ _ _ hG (lv_sub hl [1, 0] rfl)
  exact LL1 _ _ _ h _ _ _ hG (lv_sub hl [1, 0] rfl)
theorem k_X6_laysThen (hF : gX p m c cc nL s args RX6 D clX (tyA dA) K A R rm) (hL0 : L0 ≤ b) (hG : gJ D clX L0 A s.heap (twG dA b σ G0) n H locs) (hl : lv_has ls nL lv) (h1 : 0 + 1 ≤ rm.frames) (h2 : 8 + (2 + 11) + 0 ≤ rm.locals) {γ : Type} {f : TS → Option γ} {o : γ} (h : ob1 (t_X6_laysThen σ) f = some o) (hc : cells ≤ rm.cells ∧ slots ≤ rm.slots) (hW : (rest.map fun v => v.category).sum ≤ 8) (hdg : decode cc pc = .ok (.invokevirtual 315, 3))
    (kk : ∀ (σ1 : TS) (H1 : Heap) (locs1 : List Loc), f σ1 = some o → gJ D clX L0 A s.heap (twG dA b σ1 G0) n H1 locs1 → W p l e R s m args below meth c H1 locs1 cells slots Q (F0 m (pc + 3) ls rest)) : W p l e R s m args below meth c H locs cells slots Q (F0 m pc ls (.ref b :: rest)) := by
  obtain ⟨r, hr, h⟩ := ob1_e h
  refine g_callV hF hG hl twG_obj (C := RX6) (T := TX6) (N := 35) rfl (w_X6_laysThen hF.2.2.1 hL0 σ hr) (cwV 0 hF.1.2.2.2.2 (lw_V q2198 q2200 qs72 q108 q2201) rfl rfl rfl (by decide +kernel) (g_room hF h1 h2)) rfl rfl hW hdg ⟨by rw [hF.2.2.2.2]; exact hc.1, by rw [hF.2.2.2.2]; exact hc.2⟩ (fun v G1 n1 H1 locs1 hR hG1 => ?_)
  obtain ⟨rfl, rfl, rfl⟩ := hR
  exact kk r H1 locs1 h hG1
/-! darkens -/
def t_X6_darkens_L11 (p0 : Nat) : Nat → Int32 → TS → Option (TS)
  | 0, _, _ => none
  | n + 1, y12, σ13 =>
    if (σ13.1 1) ≤ y12 then (
    some σ13)
    else (
    ob1 (t_X6_at y12 2) fun (v14 : Int32) =>
    ob1 (t_X6_at y12 1) fun (v15 : Int32) =>
    ob1 (T_rd σ13 p0 v15) fun (v16 : Int32) =>
    ob1 (T_wr σ13 p0 v14 v16) fun (σ17 : TS) =>
    ob1 (t_X6_at y12 3) fun (v18 : Int32) =>
    ob1 (T_wr σ17 p0 v18 0) fun (σ19 : TS) =>
    ob1 (t_X6_at y12 6) fun (v20 : Int32) =>
    ob1 (T_wr σ19 p0 v20 (-1)) fun (σ21 : TS) =>
    ob1 (t_X6_at y12 7) fun (v22 : Int32) =>
    ob1 (T_wr σ21 p0 v22 0) fun (σ23 : TS) =>
    ob1 (t_X6_at y12 8) fun (v24 : Int32) =>
    ob1 (T_wr σ23 p0 v24 0) fun (σ25 : TS) =>
    ob1 (t_X6_at y12 9) fun (v26 : Int32) =>
    ob1 (T_wr σ25 p0 v26 0) fun (σ27 : TS) =>
    ob1 (t_X6_at y12 10) fun (v28 : Int32) =>
    ob1 (T_rd σ27 p0 0) fun (v29 : Int32) =>
    ob1 (T_wr σ27 p0 v28 v29) fun (σ30 : TS) =>
    nm (y12 + 1) fun (x31 : Int32) =>
    t_X6_darkens_L11 p0 n x31 σ30)
def t_X6_darkens (σ : TS) (p0 : Nat) (p1 : Int32) : Option (TS) :=
ob1 (T_rd σ p0 0) fun (v1 : Int32) =>
nm (v1 + p1) fun (x2 : Int32) =>
ob1 (T_rd σ p0 1) fun (v3 : Int32) =>
ob1 (
if x2 ≤ v3 then (
ob1 (T_rd σ p0 1) fun (v4 : Int32) =>
some v4)
else (
some x2)) fun (z5 : Int32) =>
ob1 (T_wr σ p0 1 z5) fun (σ6 : TS) =>
ob1 (T_rd σ6 p0 2) fun (v7 : Int32) =>
ob1 (T_wr σ6 p0 2 (v7 + 1)) fun (σ8 : TS) =>
ob1 (T_wr σ8 p0 11 0) fun (σ9 : TS) =>
ob1 (T_wr σ9 p0 12 0) fun (σ10 : TS) =>
ob1 (
t_X6_darkens_L11 p0 4096 0 σ10) fun (σ32 : TS) =>
some σ32
set_option maxRecDepth 100000 in
theorem w_X6_darkens {l : Launch} {D : va_G} {dA : Nat → ClassId} {K : gKT} {L0 b sz : Nat} {G0 : GH} (hKo : gKo D clX (tyA dA) K) (hL0 : L0 ≤ b) (σ : TS) (p0 : Nat) (p1 : Int32) (hj0 : twI p0) {out : TS} (h : t_X6_darkens σ p0 p1 = some out) : gMet l yX6_darkens (ws_ yX6_darkens cX6_darkens 5 none) D clX L0 K [.ref b, .ref (b + p0), .int p1] (twG dA b σ G0) sz 1 21 0 0 (twRV dA b out G0 sz) := by
  refine gMet.of (own := RX6) hKo (by decide +kernel) (Nat.le_of_ble_eq_true rfl) rfl ?_
  intro p e R s m args below meth c A Q ls H hF hQ hin hG hl
  have hx := hF.1.1
  have hb := hF.1.2.1
  have hts := hF.1.2.2.2.2
  have hl : lv_has ls 5 [(0, .ref b), (1, .ref (b + p0)), (2, .int p1)] := hl
  unfold t_X6_darkens at h
  refine lv_aload_n hx hb dX6_darkens_0 rfl (lv_at hl 1 rfl) ?_
  refine lv_iconst (v := 0) hx hb dX6_darkens_1 (by decide) ?_
  refine tw_rd hF hG (j := p0) hj0 h dX6_darkens_2 (fun v1 h => ?_)
  refine lv_iload_n hx hb dX6_darkens_3 rfl (lv_at hl 2 rfl) ?_
  refine lv_iadd hx hb dX6_darkens_4 ?_
  refine gb_nm h (fun x2 h => ?_)
  refine lv_istore_n hx hb dX6_darkens_5 rfl hl (Nat.le_of_ble_eq_true rfl) (lv' := [(3, .int x2), (0, .ref b), (1, .ref (b + p0)), (2, .int p1)]) rfl (fun ls hl => ?_)
  refine lv_aload_n hx hb dX6_darkens_6 rfl (lv_at hl 2 rfl) ?_
  refine lv_iconst (v := 1) hx hb dX6_darkens_7 (by decide) ?_
  refine lv_iload_n hx hb dX6_darkens_8 rfl (lv_at hl 0 rfl) ?_
  refine lv_aload_n hx hb dX6_darkens_9 rfl (lv_at hl 2 rfl) ?_
  refine lv_iconst (v := 1) hx hb dX6_darkens_10 (by decide) ?_
  refine tw_rd hF hG (j := p0) hj0 h dX6_darkens_11 (fun v3 h => ?_)
  obtain ⟨X1, h, hJ1⟩ := ob1_u h
  have J1 : ∀ (z5 : Int32), X1 = z5 → ∀ (H : Heap) (locs : List Loc) (ls : Array Slot), gJ D clX L0 A s.heap (twG dA b σ G0) sz H locs → lv_has ls 5 [(0, .ref b), (1, .ref (b + p0))] → W p l e R s m args below meth c H locs 0 0 Q (F0 m 22 ls [.int z5, .int 1, .ref (b + p0)]) := by
    intro z5 e0 H locs ls hG hl
    have h := hJ1 z5 e0
    refine tw_wr hF hL0 hG (j := p0) hj0 h dX6_darkens_22 (fun σ6 H locs h hG => ?_)
    refine lv_aload_n hx hb dX6_darkens_23 rfl (lv_at hl 1 rfl) ?_
    refine lv_iconst (v := 2) hx hb dX6_darkens_24 (by decide) ?_
    refine lv_dup2_11 hx hb dX6_darkens_25 rfl rfl ?_
    refine tw_rd hF hG (j := p0) hj0 h dX6_darkens_26 (fun v7 h => ?_)
    refine lv_iconst (v := 1) hx hb dX6_darkens_27 (by decide) ?_
    refine lv_iadd hx hb dX6_darkens_28 ?_
    refine tw_wr hF hL0 hG (j := p0) hj0 h dX6_darkens_29 (fun σ8 H locs h hG => ?_)
    refine lv_aload_n hx hb dX6_darkens_30 rfl (lv_at hl 1 rfl) ?_
    refine lv_bipush (v := 11) hx hb dX6_darkens_31 (by decide) ?_
    refine lv_iconst (v := 0) hx hb dX6_darkens_33 (by decide) ?_
    refine tw_wr hF hL0 hG (j := p0) hj0 h dX6_darkens_34 (fun σ9 H locs h hG => ?_)
    refine lv_aload_n hx hb dX6_darkens_35 rfl (lv_at hl 1 rfl) ?_
    refine lv_bipush (v := 12) hx hb dX6_darkens_36 (by decide) ?_
    refine lv_iconst (v := 0) hx hb dX6_darkens_38 (by decide) ?_
    refine tw_wr hF hL0 hG (j := p0) hj0 h dX6_darkens_39 (fun σ10 H locs h hG => ?_)
    refine lv_iconst (v := 0) hx hb dX6_darkens_40 (by decide) ?_
    refine lv_istore hx hb dX6_darkens_41 hl (Nat.le_of_ble_eq_true rfl) (lv' := [(4, .int 0), (0, .ref b), (1, .ref (b + p0))]) rfl (fun ls hl => ?_)
    obtain ⟨X2, h, hJ2⟩ := ob1_u h
    have J2 : ∀ (σ32 : TS), X2 = σ32 → ∀ (H : Heap) (locs : List Loc) (ls : Array Slot), gJ D clX L0 A s.heap (twG dA b σ32 G0) sz H locs → lv_has ls 5 [] → W p l e R s m args below meth c H locs 0 0 Q (F0 m 135 ls []) := by
      intro σ32 e0 H locs ls hG hl
      have h := hJ2 σ32 e0
      have h := Option.some.inj h
      subst h
      exact g_vret hQ hG ⟨rfl, rfl, rfl⟩ (Nat.le_refl _) (Nat.le_refl _) dX6_darkens_135
    have LL11 : ∀ (n : Nat) (y12 : Int32) (σ13 : TS), t_X6_darkens_L11 p0 n y12 σ13 = some X2 → ∀ (H : Heap) (locs : List Loc) (ls : Array Slot), gJ D clX L0 A s.heap (twG dA b σ13 G0) sz H locs → lv_has ls 5 [(0, .ref b), (1, .ref (b + p0)), (4, .int y12)] → W p l e R s m args below meth c H locs 0 0 Q (F0 m 43 ls []) := by
      intro n
      induction n with
      | zero =>
        intro y12 σ13 h
        rw [t_X6_darkens_L11] at h
        cases h
      | succ n ihL11 =>
        intro y12 σ13 h H locs ls hG hl
        rw [t_X6_darkens_L11] at h
        refine lv_iload hx hb dX6_darkens_43 (lv_at hl 2 rfl) ?_
        refine lv_aload_n hx hb dX6_darkens_45 rfl (lv_at hl 0 rfl) ?_
        refine tw_getI hF hG 1 (by decide) q1834 rfl dX6_darkens_46 ?_
        refine gb_icmp_ge hx hb dX6_darkens_49 (tgt := 135) (by decide) h (fun h => ?_) (fun h => ?_)
        · exact J2 _ (Option.some.inj h).symm _ _ _ hG (lv_sub hl [] rfl)
        · refine lv_aload_n hx hb dX6_darkens_52 rfl (lv_at hl 1 rfl) ?_
          refine lv_iload hx hb dX6_darkens_53 (lv_at hl 2 rfl) ?_
          refine lv_iconst (v := 2) hx hb dX6_darkens_55 (by decide) ?_
          refine k_X6_at hF hL0 hG hl (Nat.le_of_ble_eq_true rfl) (Nat.le_of_ble_eq_true rfl) h ⟨Nat.le_of_ble_eq_true rfl, Nat.le_of_ble_eq_true rfl⟩ (Nat.le_of_ble_eq_true rfl) dX6_darkens_56 (fun v14 H locs h hG => ?_)
          refine lv_aload_n hx hb dX6_darkens_59 rfl (lv_at hl 1 rfl) ?_
          refine lv_iload hx hb dX6_darkens_60 (lv_at hl 2 rfl) ?_
          refine lv_iconst (v := 1) hx hb dX6_darkens_62 (by decide) ?_
          refine k_X6_at hF hL0 hG hl (Nat.le_of_ble_eq_true rfl) (Nat.le_of_ble_eq_true rfl) h ⟨Nat.le_of_ble_eq_true rfl, Nat.le_of_ble_eq_true rfl⟩ (Nat.le_of_ble_eq_true rfl) dX6_darkens_63 (fun v15 H locs h hG => ?_)
          refine tw_rd hF hG (j := p0) hj0 h dX6_darkens_66 (fun v16 h => ?_)
          refine tw_wr hF hL0 hG (j := p0) hj0 h dX6_darkens_67 (fun σ17 H locs h hG => ?_)
          refine lv_aload_n hx hb dX6_darkens_68 rfl (lv_at hl 1 rfl) ?_
          refine lv_iload hx hb dX6_darkens_69 (lv_at hl 2 rfl) ?_
          refine lv_iconst (v := 3) hx hb dX6_darkens_71 (by decide) ?_
          refine k_X6_at hF hL0 hG hl (Nat.le_of_ble_eq_true rfl) (Nat.le_of_ble_eq_true rfl) h ⟨Nat.le_of_ble_eq_true rfl, Nat.le_of_ble_eq_true rfl⟩ (Nat.le_of_ble_eq_true rfl) dX6_darkens_72 (fun v18 H locs h hG => ?_)
          refine lv_iconst (v := 0) hx hb dX6_darkens_75 (by decide) ?_
          refine tw_wr hF hL0 hG (j := p0) hj0 h dX6_darkens_76 (fun σ19 H locs h hG => ?_)
          refine lv_aload_n hx hb dX6_darkens_77 rfl (lv_at hl 1 rfl) ?_
          refine lv_iload hx hb dX6_darkens_78 (lv_at hl 2 rfl) ?_
          refine lv_bipush (v := 6) hx hb dX6_darkens_80 (by decide) ?_
          refine k_X6_at hF hL0 hG hl (Nat.le_of_ble_eq_true rfl) (Nat.le_of_ble_eq_true rfl) h ⟨Nat.le_of_ble_eq_true rfl, Nat.le_of_ble_eq_true rfl⟩ (Nat.le_of_ble_eq_true rfl) dX6_darkens_82 (fun v20 H locs h hG => ?_)
          refine lv_iconst (v := (-1)) hx hb dX6_darkens_85 (by decide) ?_
          refine tw_wr hF hL0 hG (j := p0) hj0 h dX6_darkens_86 (fun σ21 H locs h hG => ?_)
          refine lv_aload_n hx hb dX6_darkens_87 rfl (lv_at hl 1 rfl) ?_
          refine lv_iload hx hb dX6_darkens_88 (lv_at hl 2 rfl) ?_
          refine lv_bipush (v := 7) hx hb dX6_darkens_90 (by decide) ?_
          refine k_X6_at hF hL0 hG hl (Nat.le_of_ble_eq_true rfl) (Nat.le_of_ble_eq_true rfl) h ⟨Nat.le_of_ble_eq_true rfl, Nat.le_of_ble_eq_true rfl⟩ (Nat.le_of_ble_eq_true rfl) dX6_darkens_92 (fun v22 H locs h hG => ?_)
          refine lv_iconst (v := 0) hx hb dX6_darkens_95 (by decide) ?_
          refine tw_wr hF hL0 hG (j := p0) hj0 h dX6_darkens_96 (fun σ23 H locs h hG => ?_)
          refine lv_aload_n hx hb dX6_darkens_97 rfl (lv_at hl 1 rfl) ?_
          refine lv_iload hx hb dX6_darkens_98 (lv_at hl 2 rfl) ?_
          refine lv_bipush (v := 8) hx hb dX6_darkens_100 (by decide) ?_
          refine k_X6_at hF hL0 hG hl (Nat.le_of_ble_eq_true rfl) (Nat.le_of_ble_eq_true rfl) h ⟨Nat.le_of_ble_eq_true rfl, Nat.le_of_ble_eq_true rfl⟩ (Nat.le_of_ble_eq_true rfl) dX6_darkens_102 (fun v24 H locs h hG => ?_)
          refine lv_iconst (v := 0) hx hb dX6_darkens_105 (by decide) ?_
          refine tw_wr hF hL0 hG (j := p0) hj0 h dX6_darkens_106 (fun σ25 H locs h hG => ?_)
          refine lv_aload_n hx hb dX6_darkens_107 rfl (lv_at hl 1 rfl) ?_
          refine lv_iload hx hb dX6_darkens_108 (lv_at hl 2 rfl) ?_
          refine lv_bipush (v := 9) hx hb dX6_darkens_110 (by decide) ?_
          refine k_X6_at hF hL0 hG hl (Nat.le_of_ble_eq_true rfl) (Nat.le_of_ble_eq_true rfl) h ⟨Nat.le_of_ble_eq_true rfl, Nat.le_of_ble_eq_true rfl⟩ (Nat.le_of_ble_eq_true rfl) dX6_darkens_112 (fun v26 H locs h hG => ?_)
          refine lv_iconst (v := 0) hx hb dX6_darkens_115 (by decide) ?_
          refine tw_wr hF hL0 hG (j := p0) hj0 h dX6_darkens_116 (fun σ27 H locs h hG => ?_)
          refine lv_aload_n hx hb dX6_darkens_117 rfl (lv_at hl 1 rfl) ?_
          refine lv_iload hx hb dX6_darkens_118 (lv_at hl 2 rfl) ?_
          refine lv_bipush (v := 10) hx hb dX6_darkens_120 (by decide) ?_
          refine k_X6_at hF hL0 hG hl (Nat.le_of_ble_eq_true rfl) (Nat.le_of_ble_eq_true rfl) h ⟨Nat.le_of_ble_eq_true rfl, Nat.le_of_ble_eq_true rfl⟩ (Nat.le_of_ble_eq_true rfl) dX6_darkens_122 (fun v28 H locs h hG => ?_)
          refine lv_aload_n hx hb dX6_darkens_125 rfl (lv_at hl 1 rfl) ?_
          refine lv_iconst (v := 0) hx hb dX6_darkens_126 (by decide) ?_
          refine tw_rd hF hG (j := p0) hj0 h dX6_darkens_127 (fun v29 h => ?_)
          refine tw_wr hF hL0 hG (j := p0) hj0 h dX6_darkens_128 (fun σ30 H locs h hG => ?_)
          refine gb_iinc (k' := 1) hx hb dX6_darkens_129 hl (k := 2) rfl (by decide) (Nat.le_of_ble_eq_true rfl) h (fun x31 ls h hl => ?_)
          have hl : lv_has ls 5 [(4, .int x31), (0, .ref b), (1, .ref (b + p0))] := hl
          refine lv_goto hx hb dX6_darkens_132 (tgt := 43) (by decide) ?_
          exact ihL11 _ _ h _ _ _ hG (lv_sub hl [1, 2, 0] rfl)
    exact LL11 _ _ _ h _ _ _ hG (lv_sub hl [1, 2, 0] rfl)
  refine gb_icmp_le hx hb dX6_darkens_12 (tgt := 19) (by decide) h (fun h => ?_) (fun h => ?_)
  · refine lv_aload_n hx hb dX6_darkens_19 rfl (lv_at hl 2 rfl) ?_
    refine lv_iconst (v := 1) hx hb dX6_darkens_20 (by decide) ?_
    refine tw_rd hF hG (j := p0) hj0 h dX6_darkens_21 (fun v4 h => ?_)
    exact J1 _ (Option.some.inj h).symm _ _ _ hG (lv_sub hl [1, 2] rfl)
  · refine lv_iload_n hx hb dX6_darkens_15 rfl (lv_at hl 0 rfl) ?_
    refine lv_goto hx hb dX6_darkens_16 (tgt := 22) (by decide) ?_
    exact J1 _ (Option.some.inj h).symm _ _ _ hG (lv_sub hl [1, 2] rfl)
theorem k_X6_darkens (hF : gX p m c cc nL s args RX6 D clX (tyA dA) K A R rm) (hL0 : L0 ≤ b) (hG : gJ D clX L0 A s.heap (twG dA b σ G0) n H locs) (hl : lv_has ls nL lv) (h1 : 1 + 1 ≤ rm.frames) (h2 : 8 + (5 + 11) + 21 ≤ rm.locals) {p0 : Nat} {p1 : Int32} (hj0 : twI p0) {γ : Type} {f : TS → Option γ} {o : γ} (h : ob1 (t_X6_darkens σ p0 p1) f = some o) (hc : cells ≤ rm.cells ∧ slots ≤ rm.slots) (hW : (rest.map fun v => v.category).sum ≤ 8) (hdg : decode cc pc = .ok (.invokevirtual 271, 3))
    (kk : ∀ (σ1 : TS) (H1 : Heap) (locs1 : List Loc), f σ1 = some o → gJ D clX L0 A s.heap (twG dA b σ1 G0) n H1 locs1 → W p l e R s m args below meth c H1 locs1 cells slots Q (F0 m (pc + 3) ls rest)) : W p l e R s m args below meth c H locs cells slots Q (F0 m pc ls (.int p1 :: .ref (b + p0) :: .ref b :: rest)) := by
  obtain ⟨r, hr, h⟩ := ob1_e h
  refine g_callV hF hG hl twG_obj (C := RX6) (T := TX6) (N := 35) rfl (w_X6_darkens hF.2.2.1 hL0 σ p0 p1 hj0 hr) (cwV 2 hF.1.2.2.2.2 (lw_V q2210 q2212 qs75 q108 q2213) rfl rfl rfl (by decide +kernel) (g_room hF h1 h2)) rfl rfl hW hdg ⟨by rw [hF.2.2.2.2]; exact hc.1, by rw [hF.2.2.2.2]; exact hc.2⟩ (fun v G1 n1 H1 locs1 hR hG1 => ?_)
  obtain ⟨rfl, rfl, rfl⟩ := hR
  exact kk r H1 locs1 h hG1
/-! receives -/
def t_X6_receives (σ : TS) (p0 : Nat) (p1 : Int32) : Option (TS) :=
ob1 (T_rd σ p0 (p1 + 1)) fun (v1 : Int32) =>
ob1 (t_X6_at v1 9) fun (v2 : Int32) =>
ob1 (T_rd σ p0 v2) fun (v3 : Int32) =>
ob1 (T_rd σ p0 p1) fun (v4 : Int32) =>
if v4 = 0 then (
oe0 (ρ := TS) (
if v3 = 0 then (
some (Sum.inr ()))
else (
if v3 = 3 then (
some (Sum.inr ()))
else (
some (Sum.inl σ)))) (fun r => some r) (
ob1 (t_X6_marks σ p0 v1 1) fun (σ5 : TS) =>
some σ5))
else if v4 = 1 then (
ob1 (t_X6_marks σ p0 v1 3) fun (σ6 : TS) =>
some σ6)
else if v4 = 2 then (
ob1 (t_X6_marks σ p0 v1 0) fun (σ7 : TS) =>
some σ7)
else if v4 = 3 then (
oe0 (ρ := TS) (
if v3 = 2 then (
ob1 (t_X6_at v1 10) fun (v8 : Int32) =>
ob1 (T_rd σ p0 v8) fun (v9 : Int32) =>
ob1 (T_rd σ p0 0) fun (v10 : Int32) =>
if v9 = (v10 - 1) then (
some (Sum.inl σ))
else (
some (Sum.inr ())))
else (
some (Sum.inr ()))) (fun r => some r) (
ob1 (T_rd σ p0 (p1 + 2)) fun (v11 : Int32) =>
if v11 = 2 then (
ob1 (t_X6_at v1 10) fun (v14 : Int32) =>
ob1 (T_rd σ p0 0) fun (v15 : Int32) =>
ob1 (T_wr σ p0 v14 v15) fun (σ16 : TS) =>
some σ16)
else (
ob1 (T_rd σ p0 (p1 + 2)) fun (v12 : Int32) =>
ob1 (t_X6_marks σ p0 v1 v12) fun (σ13 : TS) =>
some σ13)))
else if v4 = 4 then (
ob1 (t_X6_at v1 2) fun (v17 : Int32) =>
ob1 (T_rd σ p0 v17) fun (v18 : Int32) =>
if v18 = 1 then (
ob1 (t_X6_at v1 2) fun (v19 : Int32) =>
ob1 (T_wr σ p0 v19 2) fun (σ20 : TS) =>
ob1 (t_X6_at v1 3) fun (v21 : Int32) =>
ob1 (T_rd σ20 1 ((4 * v1) + 3)) fun (v22 : Int32) =>
ob1 (T_wr σ20 p0 v21 v22) fun (σ23 : TS) =>
ob1 (t_X6_at v1 4) fun (v24 : Int32) =>
ob1 (T_rd σ23 p0 v24) fun (v25 : Int32) =>
ob1 (T_wr σ23 p0 v24 (v25 + 1)) fun (σ26 : TS) =>
some σ26)
else (
some σ))
else (
ob1 (t_X6_at v1 8) fun (v27 : Int32) =>
ob1 (T_wr σ p0 v27 1) fun (σ28 : TS) =>
some σ28)
set_option maxRecDepth 100000 in
theorem w_X6_receives {l : Launch} {D : va_G} {dA : Nat → ClassId} {K : gKT} {L0 b sz : Nat} {G0 : GH} (hKo : gKo D clX (tyA dA) K) (hL0 : L0 ≤ b) (σ : TS) (p0 : Nat) (p1 : Int32) (hj0 : twI p0) {out : TS} (h : t_X6_receives σ p0 p1 = some out) : gMet l yX6_receives (ws_ yX6_receives cX6_receives 5 none) D clX L0 K [.ref b, .ref (b + p0), .int p1] (twG dA b σ G0) sz 2 45 0 0 (twRV dA b out G0 sz) := by
  refine gMet.of (own := RX6) hKo (by decide +kernel) (Nat.le_of_ble_eq_true rfl) rfl ?_
  intro p e R s m args below meth c A Q ls H hF hQ hin hG hl
  have hx := hF.1.1
  have hb := hF.1.2.1
  have hts := hF.1.2.2.2.2
  have hl : lv_has ls 5 [(0, .ref b), (1, .ref (b + p0)), (2, .int p1)] := hl
  unfold t_X6_receives at h
  refine lv_aload_n hx hb dX6_receives_0 rfl (lv_at hl 1 rfl) ?_
  refine lv_iload_n hx hb dX6_receives_1 rfl (lv_at hl 2 rfl) ?_
  refine lv_iconst (v := 1) hx hb dX6_receives_2 (by decide) ?_
  refine lv_iadd hx hb dX6_receives_3 ?_
  refine tw_rd hF hG (j := p0) hj0 h dX6_receives_4 (fun v1 h => ?_)
  refine lv_istore_n hx hb dX6_receives_5 rfl hl (Nat.le_of_ble_eq_true rfl) (lv' := [(3, .int v1), (0, .ref b), (1, .ref (b + p0)), (2, .int p1)]) rfl (fun ls hl => ?_)
  refine lv_aload_n hx hb dX6_receives_6 rfl (lv_at hl 2 rfl) ?_
  refine lv_iload_n hx hb dX6_receives_7 rfl (lv_at hl 0 rfl) ?_
  refine lv_bipush (v := 9) hx hb dX6_receives_8 (by decide) ?_
  refine k_X6_at hF hL0 hG hl (Nat.le_of_ble_eq_true rfl) (Nat.le_of_ble_eq_true rfl) h ⟨Nat.le_of_ble_eq_true rfl, Nat.le_of_ble_eq_true rfl⟩ (Nat.le_of_ble_eq_true rfl) dX6_receives_10 (fun v2 H locs h hG => ?_)
  refine tw_rd hF hG (j := p0) hj0 h dX6_receives_13 (fun v3 h => ?_)
  refine lv_istore hx hb dX6_receives_14 hl (Nat.le_of_ble_eq_true rfl) (lv' := [(4, .int v3), (3, .int v1), (0, .ref b), (1, .ref (b + p0)), (2, .int p1)]) rfl (fun ls hl => ?_)
  refine lv_aload_n hx hb dX6_receives_16 rfl (lv_at hl 3 rfl) ?_
  refine lv_iload_n hx hb dX6_receives_17 rfl (lv_at hl 4 rfl) ?_
  refine tw_rd hF hG (j := p0) hj0 h dX6_receives_18 (fun v4 h => ?_)
  rcases gb_if h with ⟨c1, h⟩ | ⟨c1, h⟩
  · refine gb_tabIn hx hb dX6_receives_19 c1 (by decide) (by decide) rfl (tgt := 52) (by decide) ?_
    refine lv_iload hx hb dX6_receives_52 (lv_at hl 0 rfl) ?_
    obtain ⟨X2, h, hE2, hJ2⟩ := oe0_u h
    have J2 : X2 = Sum.inr () → ∀ (H : Heap) (locs : List Loc) (ls : Array Slot), gJ D clX L0 A s.heap (twG dA b σ G0) sz H locs → lv_has ls 5 [(0, .ref b), (1, .ref (b + p0)), (3, .int v1)] → W p l e R s m args below meth c H locs 0 0 Q (F0 m 63 ls []) := by
      intro  e0 H locs ls hG hl
      have h := hJ2 e0
      refine lv_aload_n hx hb dX6_receives_63 rfl (lv_at hl 0 rfl) ?_
      refine lv_aload_n hx hb dX6_receives_64 rfl (lv_at hl 1 rfl) ?_
      refine lv_iload_n hx hb dX6_receives_65 rfl (lv_at hl 2 rfl) ?_
      refine lv_iconst (v := 1) hx hb dX6_receives_66 (by decide) ?_
      refine k_X6_marks hF hL0 hG hl (Nat.le_of_ble_eq_true rfl) (Nat.le_of_ble_eq_true rfl) hj0 h ⟨Nat.le_of_ble_eq_true rfl, Nat.le_of_ble_eq_true rfl⟩ (Nat.le_of_ble_eq_true rfl) dX6_receives_67 (fun σ5 H locs h hG => ?_)
      refine lv_goto hx hb dX6_receives_70 (tgt := 217) (by decide) ?_
      have h := Option.some.inj h
      subst h
      exact g_vret hQ hG ⟨rfl, rfl, rfl⟩ (Nat.le_refl _) (Nat.le_refl _) dX6_receives_217
    refine gb_if_eq hx hb dX6_receives_54 (tgt := 63) (by decide) h (fun h => ?_) (fun h => ?_)
    · exact J2 (Option.some.inj h).symm _ _ _ hG (lv_sub hl [2, 3, 1] rfl)
    · refine lv_iload hx hb dX6_receives_57 (lv_at hl 0 rfl) ?_
      refine lv_iconst (v := 3) hx hb dX6_receives_59 (by decide) ?_
      refine gb_icmp_ne hx hb dX6_receives_60 (tgt := 217) (by decide) h (fun h => ?_) (fun h => ?_)
      · have h := hE2 _ (Option.some.inj h).symm
        have h := Option.some.inj h
        subst h
        exact g_vret hQ hG ⟨rfl, rfl, rfl⟩ (Nat.le_refl _) (Nat.le_refl _) dX6_receives_217
      · exact J2 (Option.some.inj h).symm _ _ _ hG (lv_sub hl [2, 3, 1] rfl)
  rcases gb_if h with ⟨c3, h⟩ | ⟨c3, h⟩
  · refine gb_tabIn hx hb dX6_receives_19 c3 (by decide) (by decide) rfl (tgt := 73) (by decide) ?_
    refine lv_aload_n hx hb dX6_receives_73 rfl (lv_at hl 2 rfl) ?_
    refine lv_aload_n hx hb dX6_receives_74 rfl (lv_at hl 3 rfl) ?_
    refine lv_iload_n hx hb dX6_receives_75 rfl (lv_at hl 1 rfl) ?_
    refine lv_iconst (v := 3) hx hb dX6_receives_76 (by decide) ?_
    refine k_X6_marks hF hL0 hG hl (Nat.le_of_ble_eq_true rfl) (Nat.le_of_ble_eq_true rfl) hj0 h ⟨Nat.le_of_ble_eq_true rfl, Nat.le_of_ble_eq_true rfl⟩ (Nat.le_of_ble_eq_true rfl) dX6_receives_77 (fun σ6 H locs h hG => ?_)
    refine lv_goto hx hb dX6_receives_80 (tgt := 217) (by decide) ?_
    have h := Option.some.inj h
    subst h
    exact g_vret hQ hG ⟨rfl, rfl, rfl⟩ (Nat.le_refl _) (Nat.le_refl _) dX6_receives_217
  rcases gb_if h with ⟨c4, h⟩ | ⟨c4, h⟩
  · refine gb_tabIn hx hb dX6_receives_19 c4 (by decide) (by decide) rfl (tgt := 83) (by decide) ?_
    refine lv_aload_n hx hb dX6_receives_83 rfl (lv_at hl 2 rfl) ?_
    refine lv_aload_n hx hb dX6_receives_84 rfl (lv_at hl 3 rfl) ?_
    refine lv_iload_n hx hb dX6_receives_85 rfl (lv_at hl 1 rfl) ?_
    refine lv_iconst (v := 0) hx hb dX6_receives_86 (by decide) ?_
    refine k_X6_marks hF hL0 hG hl (Nat.le_of_ble_eq_true rfl) (Nat.le_of_ble_eq_true rfl) hj0 h ⟨Nat.le_of_ble_eq_true rfl, Nat.le_of_ble_eq_true rfl⟩ (Nat.le_of_ble_eq_true rfl) dX6_receives_87 (fun σ7 H locs h hG => ?_)
    refine lv_goto hx hb dX6_receives_90 (tgt := 217) (by decide) ?_
    have h := Option.some.inj h
    subst h
    exact g_vret hQ hG ⟨rfl, rfl, rfl⟩ (Nat.le_refl _) (Nat.le_refl _) dX6_receives_217
  rcases gb_if h with ⟨c5, h⟩ | ⟨c5, h⟩
  · refine gb_tabIn hx hb dX6_receives_19 c5 (by decide) (by decide) rfl (tgt := 93) (by decide) ?_
    refine lv_iload hx hb dX6_receives_93 (lv_at hl 0 rfl) ?_
    refine lv_iconst (v := 2) hx hb dX6_receives_95 (by decide) ?_
    obtain ⟨X6, h, hE6, hJ6⟩ := oe0_u h
    have J6 : X6 = Sum.inr () → ∀ (H : Heap) (locs : List Loc) (ls : Array Slot), gJ D clX L0 A s.heap (twG dA b σ G0) sz H locs → lv_has ls 5 [(0, .ref b), (1, .ref (b + p0)), (2, .int p1), (3, .int v1)] → W p l e R s m args below meth c H locs 0 0 Q (F0 m 118 ls []) := by
      intro  e0 H locs ls hG hl
      have h := hJ6 e0
      refine lv_aload_n hx hb dX6_receives_118 rfl (lv_at hl 1 rfl) ?_
      refine lv_iload_n hx hb dX6_receives_119 rfl (lv_at hl 2 rfl) ?_
      refine lv_iconst (v := 2) hx hb dX6_receives_120 (by decide) ?_
      refine lv_iadd hx hb dX6_receives_121 ?_
      refine tw_rd hF hG (j := p0) hj0 h dX6_receives_122 (fun v11 h => ?_)
      refine lv_iconst (v := 2) hx hb dX6_receives_123 (by decide) ?_
      refine gb_icmp_ne hx hb dX6_receives_124 (tgt := 141) (by decide) h (fun h => ?_) (fun h => ?_)
      · refine lv_aload_n hx hb dX6_receives_141 rfl (lv_at hl 0 rfl) ?_
        refine lv_aload_n hx hb dX6_receives_142 rfl (lv_at hl 1 rfl) ?_
        refine lv_iload_n hx hb dX6_receives_143 rfl (lv_at hl 3 rfl) ?_
        refine lv_aload_n hx hb dX6_receives_144 rfl (lv_at hl 1 rfl) ?_
        refine lv_iload_n hx hb dX6_receives_145 rfl (lv_at hl 2 rfl) ?_
        refine lv_iconst (v := 2) hx hb dX6_receives_146 (by decide) ?_
        refine lv_iadd hx hb dX6_receives_147 ?_
        refine tw_rd hF hG (j := p0) hj0 h dX6_receives_148 (fun v12 h => ?_)
        refine k_X6_marks hF hL0 hG hl (Nat.le_of_ble_eq_true rfl) (Nat.le_of_ble_eq_true rfl) hj0 h ⟨Nat.le_of_ble_eq_true rfl, Nat.le_of_ble_eq_true rfl⟩ (Nat.le_of_ble_eq_true rfl) dX6_receives_149 (fun σ13 H locs h hG => ?_)
        refine lv_goto hx hb dX6_receives_152 (tgt := 217) (by decide) ?_
        have h := Option.some.inj h
        subst h
        exact g_vret hQ hG ⟨rfl, rfl, rfl⟩ (Nat.le_refl _) (Nat.le_refl _) dX6_receives_217
      · refine lv_aload_n hx hb dX6_receives_127 rfl (lv_at hl 1 rfl) ?_
        refine lv_iload_n hx hb dX6_receives_128 rfl (lv_at hl 3 rfl) ?_
        refine lv_bipush (v := 10) hx hb dX6_receives_129 (by decide) ?_
        refine k_X6_at hF hL0 hG hl (Nat.le_of_ble_eq_true rfl) (Nat.le_of_ble_eq_true rfl) h ⟨Nat.le_of_ble_eq_true rfl, Nat.le_of_ble_eq_true rfl⟩ (Nat.le_of_ble_eq_true rfl) dX6_receives_131 (fun v14 H locs h hG => ?_)
        refine lv_aload_n hx hb dX6_receives_134 rfl (lv_at hl 1 rfl) ?_
        refine lv_iconst (v := 0) hx hb dX6_receives_135 (by decide) ?_
        refine tw_rd hF hG (j := p0) hj0 h dX6_receives_136 (fun v15 h => ?_)
        refine tw_wr hF hL0 hG (j := p0) hj0 h dX6_receives_137 (fun σ16 H locs h hG => ?_)
        refine lv_goto hx hb dX6_receives_138 (tgt := 217) (by decide) ?_
        have h := Option.some.inj h
        subst h
        exact g_vret hQ hG ⟨rfl, rfl, rfl⟩ (Nat.le_refl _) (Nat.le_refl _) dX6_receives_217
    refine gb_icmp_ne hx hb dX6_receives_96 (tgt := 118) (by decide) h (fun h => ?_) (fun h => ?_)
    · exact J6 (Option.some.inj h).symm _ _ _ hG (lv_sub hl [2, 3, 4, 1] rfl)
    · refine lv_aload_n hx hb dX6_receives_99 rfl (lv_at hl 3 rfl) ?_
      refine lv_iload_n hx hb dX6_receives_100 rfl (lv_at hl 1 rfl) ?_
      refine lv_bipush (v := 10) hx hb dX6_receives_101 (by decide) ?_
      refine k_X6_at hF hL0 hG hl (Nat.le_of_ble_eq_true rfl) (Nat.le_of_ble_eq_true rfl) h ⟨Nat.le_of_ble_eq_true rfl, Nat.le_of_ble_eq_true rfl⟩ (Nat.le_of_ble_eq_true rfl) dX6_receives_103 (fun v8 H locs h hG => ?_)
      refine tw_rd hF hG (j := p0) hj0 h dX6_receives_106 (fun v9 h => ?_)
      refine lv_aload_n hx hb dX6_receives_107 rfl (lv_at hl 3 rfl) ?_
      refine lv_iconst (v := 0) hx hb dX6_receives_108 (by decide) ?_
      refine tw_rd hF hG (j := p0) hj0 h dX6_receives_109 (fun v10 h => ?_)
      refine lv_iconst (v := 1) hx hb dX6_receives_110 (by decide) ?_
      refine lv_isub hx hb dX6_receives_111 ?_
      refine gb_icmp_ne hx hb dX6_receives_112 (tgt := 118) (by decide) h (fun h => ?_) (fun h => ?_)
      · exact J6 (Option.some.inj h).symm _ _ _ hG (lv_sub hl [2, 3, 4, 1] rfl)
      · refine lv_goto hx hb dX6_receives_115 (tgt := 217) (by decide) ?_
        have h := hE6 _ (Option.some.inj h).symm
        have h := Option.some.inj h
        subst h
        exact g_vret hQ hG ⟨rfl, rfl, rfl⟩ (Nat.le_refl _) (Nat.le_refl _) dX6_receives_217
  rcases gb_if h with ⟨c7, h⟩ | ⟨c7, h⟩
  · refine gb_tabIn hx hb dX6_receives_19 c7 (by decide) (by decide) rfl (tgt := 155) (by decide) ?_
    refine lv_aload_n hx hb dX6_receives_155 rfl (lv_at hl 3 rfl) ?_
    refine lv_iload_n hx hb dX6_receives_156 rfl (lv_at hl 1 rfl) ?_
    refine lv_iconst (v := 2) hx hb dX6_receives_157 (by decide) ?_
    refine k_X6_at hF hL0 hG hl (Nat.le_of_ble_eq_true rfl) (Nat.le_of_ble_eq_true rfl) h ⟨Nat.le_of_ble_eq_true rfl, Nat.le_of_ble_eq_true rfl⟩ (Nat.le_of_ble_eq_true rfl) dX6_receives_158 (fun v17 H locs h hG => ?_)
    refine tw_rd hF hG (j := p0) hj0 h dX6_receives_161 (fun v18 h => ?_)
    refine lv_iconst (v := 1) hx hb dX6_receives_162 (by decide) ?_
    refine gb_icmp_eq hx hb dX6_receives_163 (tgt := 169) (by decide) h (fun h => ?_) (fun h => ?_)
    · refine lv_aload_n hx hb dX6_receives_169 rfl (lv_at hl 3 rfl) ?_
      refine lv_iload_n hx hb dX6_receives_170 rfl (lv_at hl 1 rfl) ?_
      refine lv_iconst (v := 2) hx hb dX6_receives_171 (by decide) ?_
      refine k_X6_at hF hL0 hG hl (Nat.le_of_ble_eq_true rfl) (Nat.le_of_ble_eq_true rfl) h ⟨Nat.le_of_ble_eq_true rfl, Nat.le_of_ble_eq_true rfl⟩ (Nat.le_of_ble_eq_true rfl) dX6_receives_172 (fun v19 H locs h hG => ?_)
      refine lv_iconst (v := 2) hx hb dX6_receives_175 (by decide) ?_
      refine tw_wr hF hL0 hG (j := p0) hj0 h dX6_receives_176 (fun σ20 H locs h hG => ?_)
      refine lv_aload_n hx hb dX6_receives_177 rfl (lv_at hl 3 rfl) ?_
      refine lv_iload_n hx hb dX6_receives_178 rfl (lv_at hl 1 rfl) ?_
      refine lv_iconst (v := 3) hx hb dX6_receives_179 (by decide) ?_
      refine k_X6_at hF hL0 hG hl (Nat.le_of_ble_eq_true rfl) (Nat.le_of_ble_eq_true rfl) h ⟨Nat.le_of_ble_eq_true rfl, Nat.le_of_ble_eq_true rfl⟩ (Nat.le_of_ble_eq_true rfl) dX6_receives_180 (fun v21 H locs h hG => ?_)
      refine lv_aload_n hx hb dX6_receives_183 rfl (lv_at hl 2 rfl) ?_
      refine tw_getR hF hG 5 1 (by decide) q1838 rfl dX6_receives_184 ?_
      refine lv_iconst (v := 4) hx hb dX6_receives_187 (by decide) ?_
      refine lv_iload_n hx hb dX6_receives_188 rfl (lv_at hl 1 rfl) ?_
      refine lv_imul hx hb dX6_receives_189 ?_
      refine lv_iconst (v := 3) hx hb dX6_receives_190 (by decide) ?_
      refine lv_iadd hx hb dX6_receives_191 ?_
      refine tw_rd hF hG (j := 1) (by decide) h dX6_receives_192 (fun v22 h => ?_)
      refine tw_wr hF hL0 hG (j := p0) hj0 h dX6_receives_193 (fun σ23 H locs h hG => ?_)
      refine lv_aload_n hx hb dX6_receives_194 rfl (lv_at hl 3 rfl) ?_
      refine lv_iload_n hx hb dX6_receives_195 rfl (lv_at hl 1 rfl) ?_
      refine lv_iconst (v := 4) hx hb dX6_receives_196 (by decide) ?_
      refine k_X6_at hF hL0 hG hl (Nat.le_of_ble_eq_true rfl) (Nat.le_of_ble_eq_true rfl) h ⟨Nat.le_of_ble_eq_true rfl, Nat.le_of_ble_eq_true rfl⟩ (Nat.le_of_ble_eq_true rfl) dX6_receives_197 (fun v24 H locs h hG => ?_)
      refine lv_dup2_11 hx hb dX6_receives_200 rfl rfl ?_
      refine tw_rd hF hG (j := p0) hj0 h dX6_receives_201 (fun v25 h => ?_)
      refine lv_iconst (v := 1) hx hb dX6_receives_202 (by decide) ?_
      refine lv_iadd hx hb dX6_receives_203 ?_
      refine tw_wr hF hL0 hG (j := p0) hj0 h dX6_receives_204 (fun σ26 H locs h hG => ?_)
      refine lv_goto hx hb dX6_receives_205 (tgt := 217) (by decide) ?_
      have h := Option.some.inj h
      subst h
      exact g_vret hQ hG ⟨rfl, rfl, rfl⟩ (Nat.le_refl _) (Nat.le_refl _) dX6_receives_217
    · refine lv_goto hx hb dX6_receives_166 (tgt := 217) (by decide) ?_
      have h := Option.some.inj h
      subst h
      exact g_vret hQ hG ⟨rfl, rfl, rfl⟩ (Nat.le_refl _) (Nat.le_refl _) dX6_receives_217
  refine lv_tableOut hx hb dX6_receives_19 ?_ (tgt := 208) (by decide) ?_
  · have e1 := lv_neT c1 (a := 0) (by decide)
    have e3 := lv_neT c3 (a := 1) (by decide)
    have e4 := lv_neT c4 (a := 2) (by decide)
    have e5 := lv_neT c5 (a := 3) (by decide)
    have e7 := lv_neT c7 (a := 4) (by decide)
    omega
  refine lv_aload_n hx hb dX6_receives_208 rfl (lv_at hl 3 rfl) ?_
  refine lv_iload_n hx hb dX6_receives_209 rfl (lv_at hl 1 rfl) ?_
  refine lv_bipush (v := 8) hx hb dX6_receives_210 (by decide) ?_
  refine k_X6_at hF hL0 hG hl (Nat.le_of_ble_eq_true rfl) (Nat.le_of_ble_eq_true rfl) h ⟨Nat.le_of_ble_eq_true rfl, Nat.le_of_ble_eq_true rfl⟩ (Nat.le_of_ble_eq_true rfl) dX6_receives_212 (fun v27 H locs h hG => ?_)
  refine lv_iconst (v := 1) hx hb dX6_receives_215 (by decide) ?_
  refine tw_wr hF hL0 hG (j := p0) hj0 h dX6_receives_216 (fun σ28 H locs h hG => ?_)
  have h := Option.some.inj h
  subst h
  exact g_vret hQ hG ⟨rfl, rfl, rfl⟩ (Nat.le_refl _) (Nat.le_refl _) dX6_receives_217
theorem k_X6_receives (hF : gX p m c cc nL s args RX6 D clX (tyA dA) K A R rm) (hL0 : L0 ≤ b) (hG : gJ D clX L0 A s.heap (twG dA b σ G0) n H locs) (hl : lv_has ls nL lv) (h1 : 2 + 1 ≤ rm.frames) (h2 : 8 + (5 + 11) + 45 ≤ rm.locals) {p0 : Nat} {p1 : Int32} (hj0 : twI p0) {γ : Type} {f : TS → Option γ} {o : γ} (h : ob1 (t_X6_receives σ p0 p1) f = some o) (hc : cells ≤ rm.cells ∧ slots ≤ rm.slots) (hW : (rest.map fun v => v.category).sum ≤ 8) (hdg : decode cc pc = .ok (.invokevirtual 279, 3))
    (kk : ∀ (σ1 : TS) (H1 : Heap) (locs1 : List Loc), f σ1 = some o → gJ D clX L0 A s.heap (twG dA b σ1 G0) n H1 locs1 → W p l e R s m args below meth c H1 locs1 cells slots Q (F0 m (pc + 3) ls rest)) : W p l e R s m args below meth c H locs cells slots Q (F0 m pc ls (.int p1 :: .ref (b + p0) :: .ref b :: rest)) := by
  obtain ⟨r, hr, h⟩ := ob1_e h
  refine g_callV hF hG hl twG_obj (C := RX6) (T := TX6) (N := 35) rfl (w_X6_receives hF.2.2.1 hL0 σ p0 p1 hj0 hr) (cwV 2 hF.1.2.2.2.2 (lw_V q2214 q2216 qs76 q108 q2217) rfl rfl rfl (by decide +kernel) (g_room hF h1 h2)) rfl rfl hW hdg ⟨by rw [hF.2.2.2.2]; exact hc.1, by rw [hF.2.2.2.2]; exact hc.2⟩ (fun v G1 n1 H1 locs1 hR hG1 => ?_)
  obtain ⟨rfl, rfl, rfl⟩ := hR
  exact kk r H1 locs1 h hG1
/-! learns -/
def t_X6_learns_L5 (p0 : Nat) : Nat → Int32 → TS → Option (TS)
  | 0, _, _ => none
  | n + 1, y6, σ7 =>
    ob1 (T_rd σ7 p0 12) fun (v8 : Int32) =>
    if v8 ≤ y6 then (
    some σ7)
    else (
    ob1 (T_rd σ7 p0 (27 + y6)) fun (v9 : Int32) =>
    ob1 (T_wr σ7 p0 (39 + y6) v9) fun (σ10 : TS) =>
    nm (y6 + 1) fun (x11 : Int32) =>
    t_X6_learns_L5 p0 n x11 σ10)
def t_X6_learns (σ : TS) (p0 : Nat) : Option (TS) :=
ob1 (t_X6_rightsOf σ p0) fun (v1 : Int32) =>
if v1 = 0 then (
some σ)
else (
ob1 (t_X6_withState σ p0 9 3) fun (v2 : Int32) =>
if (v1 &&& (v2 ^^^ (-1))) = 0 then (
ob1 (T_rd σ p0 12) fun (v3 : Int32) =>
ob1 (T_wr σ p0 13 v3) fun (σ4 : TS) =>
ob1 (
t_X6_learns_L5 p0 4096 0 σ4) fun (σ12 : TS) =>
some σ12)
else (
some σ))
set_option maxRecDepth 100000 in
theorem w_X6_learns {l : Launch} {D : va_G} {dA : Nat → ClassId} {K : gKT} {L0 b sz : Nat} {G0 : GH} (hKo : gKo D clX (tyA dA) K) (hL0 : L0 ≤ b) (σ : TS) (p0 : Nat) (hj0 : twI p0) {out : TS} (h : t_X6_learns σ p0 = some out) : gMet l yX6_learns (ws_ yX6_learns cX6_learns 4 none) D clX L0 K [.ref b, .ref (b + p0)] (twG dA b σ G0) sz 2 46 0 0 (twRV dA b out G0 sz) := by
  refine gMet.of (own := RX6) hKo (by decide +kernel) (Nat.le_of_ble_eq_true rfl) rfl ?_
  intro p e R s m args below meth c A Q ls H hF hQ hin hG hl
  have hx := hF.1.1
  have hb := hF.1.2.1
  have hts := hF.1.2.2.2.2
  have hl : lv_has ls 4 [(0, .ref b), (1, .ref (b + p0))] := hl
  unfold t_X6_learns at h
  refine lv_aload_n hx hb dX6_learns_0 rfl (lv_at hl 0 rfl) ?_
  refine lv_aload_n hx hb dX6_learns_1 rfl (lv_at hl 1 rfl) ?_
  refine k_X6_rightsOf hF hL0 hG hl (Nat.le_of_ble_eq_true rfl) (Nat.le_of_ble_eq_true rfl) hj0 h ⟨Nat.le_of_ble_eq_true rfl, Nat.le_of_ble_eq_true rfl⟩ (Nat.le_of_ble_eq_true rfl) dX6_learns_2 (fun v1 H locs h hG => ?_)
  refine lv_istore_n hx hb dX6_learns_5 rfl hl (Nat.le_of_ble_eq_true rfl) (lv' := [(2, .int v1), (0, .ref b), (1, .ref (b + p0))]) rfl (fun ls hl => ?_)
  refine lv_iload_n hx hb dX6_learns_6 rfl (lv_at hl 0 rfl) ?_
  refine gb_if_eq hx hb dX6_learns_7 (tgt := 25) (by decide) h (fun h => ?_) (fun h => ?_)
  · have h := Option.some.inj h
    subst h
    exact g_vret hQ hG ⟨rfl, rfl, rfl⟩ (Nat.le_refl _) (Nat.le_refl _) dX6_learns_25
  · refine lv_iload_n hx hb dX6_learns_10 rfl (lv_at hl 0 rfl) ?_
    refine lv_aload_n hx hb dX6_learns_11 rfl (lv_at hl 1 rfl) ?_
    refine lv_aload_n hx hb dX6_learns_12 rfl (lv_at hl 2 rfl) ?_
    refine lv_bipush (v := 9) hx hb dX6_learns_13 (by decide) ?_
    refine lv_iconst (v := 3) hx hb dX6_learns_15 (by decide) ?_
    refine k_X6_withState hF hL0 hG hl (Nat.le_of_ble_eq_true rfl) (Nat.le_of_ble_eq_true rfl) hj0 h ⟨Nat.le_of_ble_eq_true rfl, Nat.le_of_ble_eq_true rfl⟩ (Nat.le_of_ble_eq_true rfl) dX6_learns_16 (fun v2 H locs h hG => ?_)
    refine lv_iconst (v := (-1)) hx hb dX6_learns_19 (by decide) ?_
    refine lv_ixor hx hb dX6_learns_20 ?_
    refine lv_iand hx hb dX6_learns_21 ?_
    refine gb_if_eq hx hb dX6_learns_22 (tgt := 26) (by decide) h (fun h => ?_) (fun h => ?_)
    · refine lv_aload_n hx hb dX6_learns_26 rfl (lv_at hl 2 rfl) ?_
      refine lv_bipush (v := 13) hx hb dX6_learns_27 (by decide) ?_
      refine lv_aload_n hx hb dX6_learns_29 rfl (lv_at hl 2 rfl) ?_
      refine lv_bipush (v := 12) hx hb dX6_learns_30 (by decide) ?_
      refine tw_rd hF hG (j := p0) hj0 h dX6_learns_32 (fun v3 h => ?_)
      refine tw_wr hF hL0 hG (j := p0) hj0 h dX6_learns_33 (fun σ4 H locs h hG => ?_)
      refine lv_iconst (v := 0) hx hb dX6_learns_34 (by decide) ?_
      refine lv_istore_n hx hb dX6_learns_35 rfl hl (Nat.le_of_ble_eq_true rfl) (lv' := [(3, .int 0), (2, .int v1), (0, .ref b), (1, .ref (b + p0))]) rfl (fun ls hl => ?_)
      obtain ⟨X1, h, hJ1⟩ := ob1_u h
      have J1 : ∀ (σ12 : TS), X1 = σ12 → ∀ (H : Heap) (locs : List Loc) (ls : Array Slot), gJ D clX L0 A s.heap (twG dA b σ12 G0) sz H locs → lv_has ls 4 [] → W p l e R s m args below meth c H locs 0 0 Q (F0 m 62 ls []) := by
        intro σ12 e0 H locs ls hG hl
        have h := hJ1 σ12 e0
        have h := Option.some.inj h
        subst h
        exact g_vret hQ hG ⟨rfl, rfl, rfl⟩ (Nat.le_refl _) (Nat.le_refl _) dX6_learns_62
      have LL5 : ∀ (n : Nat) (y6 : Int32) (σ7 : TS), t_X6_learns_L5 p0 n y6 σ7 = some X1 → ∀ (H : Heap) (locs : List Loc) (ls : Array Slot), gJ D clX L0 A s.heap (twG dA b σ7 G0) sz H locs → lv_has ls 4 [(1, .ref (b + p0)), (3, .int y6)] → W p l e R s m args below meth c H locs 0 0 Q (F0 m 36 ls []) := by
        intro n
        induction n with
        | zero =>
          intro y6 σ7 h
          rw [t_X6_learns_L5] at h
          cases h
        | succ n ihL5 =>
          intro y6 σ7 h H locs ls hG hl
          rw [t_X6_learns_L5] at h
          refine lv_iload_n hx hb dX6_learns_36 rfl (lv_at hl 1 rfl) ?_
          refine lv_aload_n hx hb dX6_learns_37 rfl (lv_at hl 0 rfl) ?_
          refine lv_bipush (v := 12) hx hb dX6_learns_38 (by decide) ?_
          refine tw_rd hF hG (j := p0) hj0 h dX6_learns_40 (fun v8 h => ?_)
          refine gb_icmp_ge hx hb dX6_learns_41 (tgt := 62) (by decide) h (fun h => ?_) (fun h => ?_)
          · exact J1 _ (Option.some.inj h).symm _ _ _ hG (lv_sub hl [] rfl)
          · refine lv_aload_n hx hb dX6_learns_44 rfl (lv_at hl 0 rfl) ?_
            refine lv_bipush (v := 39) hx hb dX6_learns_45 (by decide) ?_
            refine lv_iload_n hx hb dX6_learns_47 rfl (lv_at hl 1 rfl) ?_
            refine lv_iadd hx hb dX6_learns_48 ?_
            refine lv_aload_n hx hb dX6_learns_49 rfl (lv_at hl 0 rfl) ?_
            refine lv_bipush (v := 27) hx hb dX6_learns_50 (by decide) ?_
            refine lv_iload_n hx hb dX6_learns_52 rfl (lv_at hl 1 rfl) ?_
            refine lv_iadd hx hb dX6_learns_53 ?_
            refine tw_rd hF hG (j := p0) hj0 h dX6_learns_54 (fun v9 h => ?_)
            refine tw_wr hF hL0 hG (j := p0) hj0 h dX6_learns_55 (fun σ10 H locs h hG => ?_)
            refine gb_iinc (k' := 1) hx hb dX6_learns_56 hl (k := 1) rfl (by decide) (Nat.le_of_ble_eq_true rfl) h (fun x11 ls h hl => ?_)
            have hl : lv_has ls 4 [(3, .int x11), (1, .ref (b + p0))] := hl
            refine lv_goto hx hb dX6_learns_59 (tgt := 36) (by decide) ?_
            exact ihL5 _ _ h _ _ _ hG (lv_sub hl [1, 0] rfl)
      exact LL5 _ _ _ h _ _ _ hG (lv_sub hl [3, 0] rfl)
    · have h := Option.some.inj h
      subst h
      exact g_vret hQ hG ⟨rfl, rfl, rfl⟩ (Nat.le_refl _) (Nat.le_refl _) dX6_learns_25
theorem k_X6_learns (hF : gX p m c cc nL s args RX6 D clX (tyA dA) K A R rm) (hL0 : L0 ≤ b) (hG : gJ D clX L0 A s.heap (twG dA b σ G0) n H locs) (hl : lv_has ls nL lv) (h1 : 2 + 1 ≤ rm.frames) (h2 : 8 + (4 + 11) + 46 ≤ rm.locals) {p0 : Nat} (hj0 : twI p0) {γ : Type} {f : TS → Option γ} {o : γ} (h : ob1 (t_X6_learns σ p0) f = some o) (hc : cells ≤ rm.cells ∧ slots ≤ rm.slots) (hW : (rest.map fun v => v.category).sum ≤ 8) (hdg : decode cc pc = .ok (.invokevirtual 282, 3))
    (kk : ∀ (σ1 : TS) (H1 : Heap) (locs1 : List Loc), f σ1 = some o → gJ D clX L0 A s.heap (twG dA b σ1 G0) n H1 locs1 → W p l e R s m args below meth c H1 locs1 cells slots Q (F0 m (pc + 3) ls rest)) : W p l e R s m args below meth c H locs cells slots Q (F0 m pc ls (.ref (b + p0) :: .ref b :: rest)) := by
  obtain ⟨r, hr, h⟩ := ob1_e h
  refine g_callV hF hG hl twG_obj (C := RX6) (T := TX6) (N := 35) rfl (w_X6_learns hF.2.2.1 hL0 σ p0 hj0 hr) (cwV 1 hF.1.2.2.2.2 (lw_V q2218 q2220 qs77 q108 q2221) rfl rfl rfl (by decide +kernel) (g_room hF h1 h2)) rfl rfl hW hdg ⟨by rw [hF.2.2.2.2]; exact hc.1, by rw [hF.2.2.2.2]; exact hc.2⟩ (fun v G1 n1 H1 locs1 hR hG1 => ?_)
  obtain ⟨rfl, rfl, rfl⟩ := hR
  exact kk r H1 locs1 h hG1
/-! acts -/
def t_X6_acts (σ : TS) (p0 : Nat) (p1 : Int32) : Option (TS) :=
ob1 (t_X6_at p1 2) fun (v1 : Int32) =>
ob1 (T_rd σ p0 v1) fun (v2 : Int32) =>
ob1 (
if v2 = 2 then (
ob1 (t_X6_at p1 3) fun (v3 : Int32) =>
ob1 (T_rd σ p0 v3) fun (v4 : Int32) =>
if v4 = 0 then (
ob1 (t_X6_at p1 2) fun (v5 : Int32) =>
ob1 (T_wr σ p0 v5 3) fun (σ6 : TS) =>
ob1 (t_X6_at p1 5) fun (v7 : Int32) =>
ob1 (T_rd σ6 p0 0) fun (v8 : Int32) =>
ob1 (T_wr σ6 p0 v7 v8) fun (σ9 : TS) =>
ob1 (t_X6_sends σ9 p0 1 p1 (-1)) fun (σ10 : TS) =>
some σ10)
else (
some σ))
else (
some σ)) fun (σ11 : TS) =>
ob1 (t_X6_at p1 7) fun (v12 : Int32) =>
ob1 (T_rd σ11 p0 v12) fun (v13 : Int32) =>
ob1 (
if v13 = 1 then (
ob1 (t_X6_sends σ11 p0 2 p1 (-1)) fun (σ14 : TS) =>
some σ14)
else (
some σ11)) fun (σ15 : TS) =>
ob1 (t_X6_at p1 8) fun (v16 : Int32) =>
ob1 (T_rd σ15 p0 v16) fun (v17 : Int32) =>
ob1 (
if v17 = 1 then (
ob1 (t_X6_at p1 2) fun (v18 : Int32) =>
ob1 (T_rd σ15 p0 v18) fun (v19 : Int32) =>
ob1 (t_X6_sends σ15 p0 3 p1 v19) fun (σ20 : TS) =>
some σ20)
else (
some σ15)) fun (σ21 : TS) =>
ob1 (t_X6_at p1 7) fun (v22 : Int32) =>
ob1 (T_wr σ21 p0 v22 0) fun (σ23 : TS) =>
ob1 (t_X6_at p1 8) fun (v24 : Int32) =>
ob1 (T_wr σ23 p0 v24 0) fun (σ25 : TS) =>
ob1 (t_X6_at p1 6) fun (v26 : Int32) =>
ob1 (T_rd σ25 p0 v26) fun (v27 : Int32) =>
ob1 (
if v27 = (-1) then (
some (1 : Int32))
else (
ob1 (T_rd σ25 p0 0) fun (v28 : Int32) =>
ob1 (t_X6_at p1 6) fun (v29 : Int32) =>
ob1 (T_rd σ25 p0 v29) fun (v30 : Int32) =>
ob1 (T_rd σ25 p0 7) fun (v31 : Int32) =>
if (v28 - v30) < v31 then (
some (0 : Int32))
else (
some (1 : Int32)))) fun (z32 : Int32) =>
ob1 (t_X6_at p1 2) fun (v33 : Int32) =>
ob1 (T_rd σ25 p0 v33) fun (v34 : Int32) =>
if v34 = 1 then (
if z32 = 0 then (
some σ25)
else (
ob1 (t_X6_sends σ25 p0 0 p1 (-1)) fun (σ35 : TS) =>
ob1 (t_X6_at p1 6) fun (v36 : Int32) =>
ob1 (T_rd σ35 p0 0) fun (v37 : Int32) =>
ob1 (T_wr σ35 p0 v36 v37) fun (σ38 : TS) =>
some σ38))
else (
some σ25)
set_option maxRecDepth 100000 in
theorem w_X6_acts {l : Launch} {D : va_G} {dA : Nat → ClassId} {K : gKT} {L0 b sz : Nat} {G0 : GH} (hKo : gKo D clX (tyA dA) K) (hL0 : L0 ≤ b) (σ : TS) (p0 : Nat) (p1 : Int32) (hj0 : twI p0) {out : TS} (h : t_X6_acts σ p0 p1 = some out) : gMet l yX6_acts (ws_ yX6_acts cX6_acts 4 none) D clX L0 K [.ref b, .ref (b + p0), .int p1] (twG dA b σ G0) sz 1 26 0 0 (twRV dA b out G0 sz) := by
  refine gMet.of (own := RX6) hKo (by decide +kernel) (Nat.le_of_ble_eq_true rfl) rfl ?_
  intro p e R s m args below meth c A Q ls H hF hQ hin hG hl
  have hx := hF.1.1
  have hb := hF.1.2.1
  have hts := hF.1.2.2.2.2
  have hl : lv_has ls 4 [(0, .ref b), (1, .ref (b + p0)), (2, .int p1)] := hl
  unfold t_X6_acts at h
  refine lv_aload_n hx hb dX6_acts_0 rfl (lv_at hl 1 rfl) ?_
  refine lv_iload_n hx hb dX6_acts_1 rfl (lv_at hl 2 rfl) ?_
  refine lv_iconst (v := 2) hx hb dX6_acts_2 (by decide) ?_
  refine k_X6_at hF hL0 hG hl (Nat.le_of_ble_eq_true rfl) (Nat.le_of_ble_eq_true rfl) h ⟨Nat.le_of_ble_eq_true rfl, Nat.le_of_ble_eq_true rfl⟩ (Nat.le_of_ble_eq_true rfl) dX6_acts_3 (fun v1 H locs h hG => ?_)
  refine tw_rd hF hG (j := p0) hj0 h dX6_acts_6 (fun v2 h => ?_)
  refine lv_iconst (v := 2) hx hb dX6_acts_7 (by decide) ?_
  obtain ⟨X1, h, hJ1⟩ := ob1_u h
  have J1 : ∀ (σ11 : TS), X1 = σ11 → ∀ (H : Heap) (locs : List Loc) (ls : Array Slot), gJ D clX L0 A s.heap (twG dA b σ11 G0) sz H locs → lv_has ls 4 [(0, .ref b), (1, .ref (b + p0)), (2, .int p1)] → W p l e R s m args below meth c H locs 0 0 Q (F0 m 47 ls []) := by
    intro σ11 e0 H locs ls hG hl
    have h := hJ1 σ11 e0
    refine lv_aload_n hx hb dX6_acts_47 rfl (lv_at hl 1 rfl) ?_
    refine lv_iload_n hx hb dX6_acts_48 rfl (lv_at hl 2 rfl) ?_
    refine lv_bipush (v := 7) hx hb dX6_acts_49 (by decide) ?_
    refine k_X6_at hF hL0 hG hl (Nat.le_of_ble_eq_true rfl) (Nat.le_of_ble_eq_true rfl) h ⟨Nat.le_of_ble_eq_true rfl, Nat.le_of_ble_eq_true rfl⟩ (Nat.le_of_ble_eq_true rfl) dX6_acts_51 (fun v12 H locs h hG => ?_)
    refine tw_rd hF hG (j := p0) hj0 h dX6_acts_54 (fun v13 h => ?_)
    refine lv_iconst (v := 1) hx hb dX6_acts_55 (by decide) ?_
    obtain ⟨X2, h, hJ2⟩ := ob1_u h
    have J2 : ∀ (σ15 : TS), X2 = σ15 → ∀ (H : Heap) (locs : List Loc) (ls : Array Slot), gJ D clX L0 A s.heap (twG dA b σ15 G0) sz H locs → lv_has ls 4 [(0, .ref b), (1, .ref (b + p0)), (2, .int p1)] → W p l e R s m args below meth c H locs 0 0 Q (F0 m 67 ls []) := by
      intro σ15 e0 H locs ls hG hl
      have h := hJ2 σ15 e0
      refine lv_aload_n hx hb dX6_acts_67 rfl (lv_at hl 1 rfl) ?_
      refine lv_iload_n hx hb dX6_acts_68 rfl (lv_at hl 2 rfl) ?_
      refine lv_bipush (v := 8) hx hb dX6_acts_69 (by decide) ?_
      refine k_X6_at hF hL0 hG hl (Nat.le_of_ble_eq_true rfl) (Nat.le_of_ble_eq_true rfl) h ⟨Nat.le_of_ble_eq_true rfl, Nat.le_of_ble_eq_true rfl⟩ (Nat.le_of_ble_eq_true rfl) dX6_acts_71 (fun v16 H locs h hG => ?_)
      refine tw_rd hF hG (j := p0) hj0 h dX6_acts_74 (fun v17 h => ?_)
      refine lv_iconst (v := 1) hx hb dX6_acts_75 (by decide) ?_
      obtain ⟨X3, h, hJ3⟩ := ob1_u h
      have J3 : ∀ (σ21 : TS), X3 = σ21 → ∀ (H : Heap) (locs : List Loc) (ls : Array Slot), gJ D clX L0 A s.heap (twG dA b σ21 G0) sz H locs → lv_has ls 4 [(0, .ref b), (1, .ref (b + p0)), (2, .int p1)] → W p l e R s m args below meth c H locs 0 0 Q (F0 m 93 ls []) := by
        intro σ21 e0 H locs ls hG hl
        have h := hJ3 σ21 e0
        refine lv_aload_n hx hb dX6_acts_93 rfl (lv_at hl 1 rfl) ?_
        refine lv_iload_n hx hb dX6_acts_94 rfl (lv_at hl 2 rfl) ?_
        refine lv_bipush (v := 7) hx hb dX6_acts_95 (by decide) ?_
        refine k_X6_at hF hL0 hG hl (Nat.le_of_ble_eq_true rfl) (Nat.le_of_ble_eq_true rfl) h ⟨Nat.le_of_ble_eq_true rfl, Nat.le_of_ble_eq_true rfl⟩ (Nat.le_of_ble_eq_true rfl) dX6_acts_97 (fun v22 H locs h hG => ?_)
        refine lv_iconst (v := 0) hx hb dX6_acts_100 (by decide) ?_
        refine tw_wr hF hL0 hG (j := p0) hj0 h dX6_acts_101 (fun σ23 H locs h hG => ?_)
        refine lv_aload_n hx hb dX6_acts_102 rfl (lv_at hl 1 rfl) ?_
        refine lv_iload_n hx hb dX6_acts_103 rfl (lv_at hl 2 rfl) ?_
        refine lv_bipush (v := 8) hx hb dX6_acts_104 (by decide) ?_
        refine k_X6_at hF hL0 hG hl (Nat.le_of_ble_eq_true rfl) (Nat.le_of_ble_eq_true rfl) h ⟨Nat.le_of_ble_eq_true rfl, Nat.le_of_ble_eq_true rfl⟩ (Nat.le_of_ble_eq_true rfl) dX6_acts_106 (fun v24 H locs h hG => ?_)
        refine lv_iconst (v := 0) hx hb dX6_acts_109 (by decide) ?_
        refine tw_wr hF hL0 hG (j := p0) hj0 h dX6_acts_110 (fun σ25 H locs h hG => ?_)
        refine lv_aload_n hx hb dX6_acts_111 rfl (lv_at hl 1 rfl) ?_
        refine lv_iload_n hx hb dX6_acts_112 rfl (lv_at hl 2 rfl) ?_
        refine lv_bipush (v := 6) hx hb dX6_acts_113 (by decide) ?_
        refine k_X6_at hF hL0 hG hl (Nat.le_of_ble_eq_true rfl) (Nat.le_of_ble_eq_true rfl) h ⟨Nat.le_of_ble_eq_true rfl, Nat.le_of_ble_eq_true rfl⟩ (Nat.le_of_ble_eq_true rfl) dX6_acts_115 (fun v26 H locs h hG => ?_)
        refine tw_rd hF hG (j := p0) hj0 h dX6_acts_118 (fun v27 h => ?_)
        refine lv_iconst (v := (-1)) hx hb dX6_acts_119 (by decide) ?_
        obtain ⟨X4, h, hJ4⟩ := ob1_u h
        have J4 : ∀ (z32 : Int32), X4 = z32 → ∀ (H : Heap) (locs : List Loc) (ls : Array Slot), gJ D clX L0 A s.heap (twG dA b σ25 G0) sz H locs → lv_has ls 4 [(0, .ref b), (1, .ref (b + p0)), (2, .int p1)] → W p l e R s m args below meth c H locs 0 0 Q (F0 m 147 ls [.int z32]) := by
          intro z32 e0 H locs ls hG hl
          have h := hJ4 z32 e0
          refine lv_istore_n hx hb dX6_acts_147 rfl hl (Nat.le_of_ble_eq_true rfl) (lv' := [(3, .int z32), (0, .ref b), (1, .ref (b + p0)), (2, .int p1)]) rfl (fun ls hl => ?_)
          refine lv_aload_n hx hb dX6_acts_148 rfl (lv_at hl 2 rfl) ?_
          refine lv_iload_n hx hb dX6_acts_149 rfl (lv_at hl 3 rfl) ?_
          refine lv_iconst (v := 2) hx hb dX6_acts_150 (by decide) ?_
          refine k_X6_at hF hL0 hG hl (Nat.le_of_ble_eq_true rfl) (Nat.le_of_ble_eq_true rfl) h ⟨Nat.le_of_ble_eq_true rfl, Nat.le_of_ble_eq_true rfl⟩ (Nat.le_of_ble_eq_true rfl) dX6_acts_151 (fun v33 H locs h hG => ?_)
          refine tw_rd hF hG (j := p0) hj0 h dX6_acts_154 (fun v34 h => ?_)
          refine lv_iconst (v := 1) hx hb dX6_acts_155 (by decide) ?_
          refine gb_icmp_ne hx hb dX6_acts_156 (tgt := 163) (by decide) h (fun h => ?_) (fun h => ?_)
          · have h := Option.some.inj h
            subst h
            exact g_vret hQ hG ⟨rfl, rfl, rfl⟩ (Nat.le_refl _) (Nat.le_refl _) dX6_acts_163
          · refine lv_iload_n hx hb dX6_acts_159 rfl (lv_at hl 0 rfl) ?_
            refine gb_if_ne hx hb dX6_acts_160 (tgt := 164) (by decide) h (fun h => ?_) (fun h => ?_)
            · refine lv_aload_n hx hb dX6_acts_164 rfl (lv_at hl 1 rfl) ?_
              refine lv_aload_n hx hb dX6_acts_165 rfl (lv_at hl 2 rfl) ?_
              refine lv_iconst (v := 0) hx hb dX6_acts_166 (by decide) ?_
              refine lv_iload_n hx hb dX6_acts_167 rfl (lv_at hl 3 rfl) ?_
              refine lv_iconst (v := (-1)) hx hb dX6_acts_168 (by decide) ?_
              refine k_X6_sends hF hL0 hG hl (Nat.le_of_ble_eq_true rfl) (Nat.le_of_ble_eq_true rfl) hj0 h ⟨Nat.le_of_ble_eq_true rfl, Nat.le_of_ble_eq_true rfl⟩ (Nat.le_of_ble_eq_true rfl) dX6_acts_169 (fun σ35 H locs h hG => ?_)
              refine lv_aload_n hx hb dX6_acts_172 rfl (lv_at hl 2 rfl) ?_
              refine lv_iload_n hx hb dX6_acts_173 rfl (lv_at hl 3 rfl) ?_
              refine lv_bipush (v := 6) hx hb dX6_acts_174 (by decide) ?_
              refine k_X6_at hF hL0 hG hl (Nat.le_of_ble_eq_true rfl) (Nat.le_of_ble_eq_true rfl) h ⟨Nat.le_of_ble_eq_true rfl, Nat.le_of_ble_eq_true rfl⟩ (Nat.le_of_ble_eq_true rfl) dX6_acts_176 (fun v36 H locs h hG => ?_)
              refine lv_aload_n hx hb dX6_acts_179 rfl (lv_at hl 2 rfl) ?_
              refine lv_iconst (v := 0) hx hb dX6_acts_180 (by decide) ?_
              refine tw_rd hF hG (j := p0) hj0 h dX6_acts_181 (fun v37 h => ?_)
              refine tw_wr hF hL0 hG (j := p0) hj0 h dX6_acts_182 (fun σ38 H locs h hG => ?_)
              have h := Option.some.inj h
              subst h
              exact g_vret hQ hG ⟨rfl, rfl, rfl⟩ (Nat.le_refl _) (Nat.le_refl _) dX6_acts_183
            · have h := Option.some.inj h
              subst h
              exact g_vret hQ hG ⟨rfl, rfl, rfl⟩ (Nat.le_refl _) (Nat.le_refl _) dX6_acts_163
        refine gb_icmp_eq hx hb dX6_acts_120 (tgt := 142) (by decide) h (fun h => ?_) (fun h => ?_)
        · refine lv_iconst (v := 1) hx hb dX6_acts_142 (by decide) ?_
          refine lv_goto hx hb dX6_acts_143 (tgt := 147) (by decide) ?_
          exact J4 _ (Option.some.inj h).symm _ _ _ hG hl
        · refine lv_aload_n hx hb dX6_acts_123 rfl (lv_at hl 1 rfl) ?_
          refine lv_iconst (v := 0) hx hb dX6_acts_124 (by decide) ?_
          refine tw_rd hF hG (j := p0) hj0 h dX6_acts_125 (fun v28 h => ?_)
          refine lv_aload_n hx hb dX6_acts_126 rfl (lv_at hl 1 rfl) ?_
          refine lv_iload_n hx hb dX6_acts_127 rfl (lv_at hl 2 rfl) ?_
          refine lv_bipush (v := 6) hx hb dX6_acts_128 (by decide) ?_
          refine k_X6_at hF hL0 hG hl (Nat.le_of_ble_eq_true rfl) (Nat.le_of_ble_eq_true rfl) h ⟨Nat.le_of_ble_eq_true rfl, Nat.le_of_ble_eq_true rfl⟩ (Nat.le_of_ble_eq_true rfl) dX6_acts_130 (fun v29 H locs h hG => ?_)
          refine tw_rd hF hG (j := p0) hj0 h dX6_acts_133 (fun v30 h => ?_)
          refine lv_isub hx hb dX6_acts_134 ?_
          refine lv_aload_n hx hb dX6_acts_135 rfl (lv_at hl 1 rfl) ?_
          refine lv_bipush (v := 7) hx hb dX6_acts_136 (by decide) ?_
          refine tw_rd hF hG (j := p0) hj0 h dX6_acts_138 (fun v31 h => ?_)
          refine gb_icmp_lt hx hb dX6_acts_139 (tgt := 146) (by decide) h (fun h => ?_) (fun h => ?_)
          · refine lv_iconst (v := 0) hx hb dX6_acts_146 (by decide) ?_
            exact J4 _ (Option.some.inj h).symm _ _ _ hG hl
          · refine lv_iconst (v := 1) hx hb dX6_acts_142 (by decide) ?_
            refine lv_goto hx hb dX6_acts_143 (tgt := 147) (by decide) ?_
            exact J4 _ (Option.some.inj h).symm _ _ _ hG hl
      refine gb_icmp_ne hx hb dX6_acts_76 (tgt := 93) (by decide) h (fun h => ?_) (fun h => ?_)
      · exact J3 _ (Option.some.inj h).symm _ _ _ hG hl
      · refine lv_aload_n hx hb dX6_acts_79 rfl (lv_at hl 0 rfl) ?_
        refine lv_aload_n hx hb dX6_acts_80 rfl (lv_at hl 1 rfl) ?_
        refine lv_iconst (v := 3) hx hb dX6_acts_81 (by decide) ?_
        refine lv_iload_n hx hb dX6_acts_82 rfl (lv_at hl 2 rfl) ?_
        refine lv_aload_n hx hb dX6_acts_83 rfl (lv_at hl 1 rfl) ?_
        refine lv_iload_n hx hb dX6_acts_84 rfl (lv_at hl 2 rfl) ?_
        refine lv_iconst (v := 2) hx hb dX6_acts_85 (by decide) ?_
        refine k_X6_at hF hL0 hG hl (Nat.le_of_ble_eq_true rfl) (Nat.le_of_ble_eq_true rfl) h ⟨Nat.le_of_ble_eq_true rfl, Nat.le_of_ble_eq_true rfl⟩ (Nat.le_of_ble_eq_true rfl) dX6_acts_86 (fun v18 H locs h hG => ?_)
        refine tw_rd hF hG (j := p0) hj0 h dX6_acts_89 (fun v19 h => ?_)
        refine k_X6_sends hF hL0 hG hl (Nat.le_of_ble_eq_true rfl) (Nat.le_of_ble_eq_true rfl) hj0 h ⟨Nat.le_of_ble_eq_true rfl, Nat.le_of_ble_eq_true rfl⟩ (Nat.le_of_ble_eq_true rfl) dX6_acts_90 (fun σ20 H locs h hG => ?_)
        exact J3 _ (Option.some.inj h).symm _ _ _ hG hl
    refine gb_icmp_ne hx hb dX6_acts_56 (tgt := 67) (by decide) h (fun h => ?_) (fun h => ?_)
    · exact J2 _ (Option.some.inj h).symm _ _ _ hG hl
    · refine lv_aload_n hx hb dX6_acts_59 rfl (lv_at hl 0 rfl) ?_
      refine lv_aload_n hx hb dX6_acts_60 rfl (lv_at hl 1 rfl) ?_
      refine lv_iconst (v := 2) hx hb dX6_acts_61 (by decide) ?_
      refine lv_iload_n hx hb dX6_acts_62 rfl (lv_at hl 2 rfl) ?_
      refine lv_iconst (v := (-1)) hx hb dX6_acts_63 (by decide) ?_
      refine k_X6_sends hF hL0 hG hl (Nat.le_of_ble_eq_true rfl) (Nat.le_of_ble_eq_true rfl) hj0 h ⟨Nat.le_of_ble_eq_true rfl, Nat.le_of_ble_eq_true rfl⟩ (Nat.le_of_ble_eq_true rfl) dX6_acts_64 (fun σ14 H locs h hG => ?_)
      exact J2 _ (Option.some.inj h).symm _ _ _ hG hl
  refine gb_icmp_ne hx hb dX6_acts_8 (tgt := 47) (by decide) h (fun h => ?_) (fun h => ?_)
  · exact J1 _ (Option.some.inj h).symm _ _ _ hG hl
  · refine lv_aload_n hx hb dX6_acts_11 rfl (lv_at hl 1 rfl) ?_
    refine lv_iload_n hx hb dX6_acts_12 rfl (lv_at hl 2 rfl) ?_
    refine lv_iconst (v := 3) hx hb dX6_acts_13 (by decide) ?_
    refine k_X6_at hF hL0 hG hl (Nat.le_of_ble_eq_true rfl) (Nat.le_of_ble_eq_true rfl) h ⟨Nat.le_of_ble_eq_true rfl, Nat.le_of_ble_eq_true rfl⟩ (Nat.le_of_ble_eq_true rfl) dX6_acts_14 (fun v3 H locs h hG => ?_)
    refine tw_rd hF hG (j := p0) hj0 h dX6_acts_17 (fun v4 h => ?_)
    refine gb_if_ne hx hb dX6_acts_18 (tgt := 47) (by decide) h (fun h => ?_) (fun h => ?_)
    · exact J1 _ (Option.some.inj h).symm _ _ _ hG hl
    · refine lv_aload_n hx hb dX6_acts_21 rfl (lv_at hl 1 rfl) ?_
      refine lv_iload_n hx hb dX6_acts_22 rfl (lv_at hl 2 rfl) ?_
      refine lv_iconst (v := 2) hx hb dX6_acts_23 (by decide) ?_
      refine k_X6_at hF hL0 hG hl (Nat.le_of_ble_eq_true rfl) (Nat.le_of_ble_eq_true rfl) h ⟨Nat.le_of_ble_eq_true rfl, Nat.le_of_ble_eq_true rfl⟩ (Nat.le_of_ble_eq_true rfl) dX6_acts_24 (fun v5 H locs h hG => ?_)
      refine lv_iconst (v := 3) hx hb dX6_acts_27 (by decide) ?_
      refine tw_wr hF hL0 hG (j := p0) hj0 h dX6_acts_28 (fun σ6 H locs h hG => ?_)
      refine lv_aload_n hx hb dX6_acts_29 rfl (lv_at hl 1 rfl) ?_
      refine lv_iload_n hx hb dX6_acts_30 rfl (lv_at hl 2 rfl) ?_
      refine lv_iconst (v := 5) hx hb dX6_acts_31 (by decide) ?_
      refine k_X6_at hF hL0 hG hl (Nat.le_of_ble_eq_true rfl) (Nat.le_of_ble_eq_true rfl) h ⟨Nat.le_of_ble_eq_true rfl, Nat.le_of_ble_eq_true rfl⟩ (Nat.le_of_ble_eq_true rfl) dX6_acts_32 (fun v7 H locs h hG => ?_)
      refine lv_aload_n hx hb dX6_acts_35 rfl (lv_at hl 1 rfl) ?_
      refine lv_iconst (v := 0) hx hb dX6_acts_36 (by decide) ?_
      refine tw_rd hF hG (j := p0) hj0 h dX6_acts_37 (fun v8 h => ?_)
      refine tw_wr hF hL0 hG (j := p0) hj0 h dX6_acts_38 (fun σ9 H locs h hG => ?_)
      refine lv_aload_n hx hb dX6_acts_39 rfl (lv_at hl 0 rfl) ?_
      refine lv_aload_n hx hb dX6_acts_40 rfl (lv_at hl 1 rfl) ?_
      refine lv_iconst (v := 1) hx hb dX6_acts_41 (by decide) ?_
      refine lv_iload_n hx hb dX6_acts_42 rfl (lv_at hl 2 rfl) ?_
      refine lv_iconst (v := (-1)) hx hb dX6_acts_43 (by decide) ?_
      refine k_X6_sends hF hL0 hG hl (Nat.le_of_ble_eq_true rfl) (Nat.le_of_ble_eq_true rfl) hj0 h ⟨Nat.le_of_ble_eq_true rfl, Nat.le_of_ble_eq_true rfl⟩ (Nat.le_of_ble_eq_true rfl) dX6_acts_44 (fun σ10 H locs h hG => ?_)
      exact J1 _ (Option.some.inj h).symm _ _ _ hG hl
theorem k_X6_acts (hF : gX p m c cc nL s args RX6 D clX (tyA dA) K A R rm) (hL0 : L0 ≤ b) (hG : gJ D clX L0 A s.heap (twG dA b σ G0) n H locs) (hl : lv_has ls nL lv) (h1 : 1 + 1 ≤ rm.frames) (h2 : 8 + (4 + 11) + 26 ≤ rm.locals) {p0 : Nat} {p1 : Int32} (hj0 : twI p0) {γ : Type} {f : TS → Option γ} {o : γ} (h : ob1 (t_X6_acts σ p0 p1) f = some o) (hc : cells ≤ rm.cells ∧ slots ≤ rm.slots) (hW : (rest.map fun v => v.category).sum ≤ 8) (hdg : decode cc pc = .ok (.invokevirtual 286, 3))
    (kk : ∀ (σ1 : TS) (H1 : Heap) (locs1 : List Loc), f σ1 = some o → gJ D clX L0 A s.heap (twG dA b σ1 G0) n H1 locs1 → W p l e R s m args below meth c H1 locs1 cells slots Q (F0 m (pc + 3) ls rest)) : W p l e R s m args below meth c H locs cells slots Q (F0 m pc ls (.int p1 :: .ref (b + p0) :: .ref b :: rest)) := by
  obtain ⟨r, hr, h⟩ := ob1_e h
  refine g_callV hF hG hl twG_obj (C := RX6) (T := TX6) (N := 35) rfl (w_X6_acts hF.2.2.1 hL0 σ p0 p1 hj0 hr) (cwV 2 hF.1.2.2.2.2 (lw_V q2222 q2224 qs78 q108 q2225) rfl rfl rfl (by decide +kernel) (g_room hF h1 h2)) rfl rfl hW hdg ⟨by rw [hF.2.2.2.2]; exact hc.1, by rw [hF.2.2.2.2]; exact hc.2⟩ (fun v G1 n1 H1 locs1 hR hG1 => ?_)
  obtain ⟨rfl, rfl, rfl⟩ := hR
  exact kk r H1 locs1 h hG1
/-! polls -/
def t_X6_polls_L1 (p0 : Nat) : Nat → Int32 → TS → Option (TS)
  | 0, _, _ => none
  | n + 1, y2, σ3 =>
    if (σ3.1 1) ≤ y2 then (
    some σ3)
    else (
    ob1 (t_X6_at y2 9) fun (v4 : Int32) =>
    ob1 (T_rd σ3 p0 v4) fun (v5 : Int32) =>
    ob1 (T_rd σ3 p0 0) fun (v6 : Int32) =>
    ob1 (t_X6_at y2 10) fun (v7 : Int32) =>
    ob1 (T_rd σ3 p0 v7) fun (v8 : Int32) =>
    nm (v6 - v8) fun (x9 : Int32) =>
    ob1 (
    if v5 < 2 then (
    some σ3)
    else (
    ob1 (
    if v5 = 2 then (
    ob1 (T_rd σ3 p0 8) fun (v11 : Int32) =>
    some v11)
    else (
    ob1 (T_rd σ3 p0 8) fun (v10 : Int32) =>
    some (5 * v10))) fun (z12 : Int32) =>
    if z12 ≤ x9 then (
    ob1 (t_X6_sends σ3 p0 5 y2 (-1)) fun (σ13 : TS) =>
    ob1 (t_X6_at y2 10) fun (v14 : Int32) =>
    ob1 (T_rd σ13 p0 0) fun (v15 : Int32) =>
    ob1 (T_wr σ13 p0 v14 v15) fun (σ16 : TS) =>
    some σ16)
    else (
    some σ3))) fun (σ17 : TS) =>
    nm (y2 + 1) fun (x18 : Int32) =>
    t_X6_polls_L1 p0 n x18 σ17)
def t_X6_polls (σ : TS) (p0 : Nat) : Option (TS) :=
ob1 (
t_X6_polls_L1 p0 4096 0 σ) fun (σ19 : TS) =>
some σ19
set_option maxRecDepth 100000 in
theorem w_X6_polls {l : Launch} {D : va_G} {dA : Nat → ClassId} {K : gKT} {L0 b sz : Nat} {G0 : GH} (hKo : gKo D clX (tyA dA) K) (hL0 : L0 ≤ b) (σ : TS) (p0 : Nat) (hj0 : twI p0) {out : TS} (h : t_X6_polls σ p0 = some out) : gMet l yX6_polls (ws_ yX6_polls cX6_polls 5 none) D clX L0 K [.ref b, .ref (b + p0)] (twG dA b σ G0) sz 1 26 0 0 (twRV dA b out G0 sz) := by
  refine gMet.of (own := RX6) hKo (by decide +kernel) (Nat.le_of_ble_eq_true rfl) rfl ?_
  intro p e R s m args below meth c A Q ls H hF hQ hin hG hl
  have hx := hF.1.1
  have hb := hF.1.2.1
  have hts := hF.1.2.2.2.2
  have hl : lv_has ls 5 [(0, .ref b), (1, .ref (b + p0))] := hl
  unfold t_X6_polls at h
  refine lv_iconst (v := 0) hx hb dX6_polls_0 (by decide) ?_
  refine lv_istore_n hx hb dX6_polls_1 rfl hl (Nat.le_of_ble_eq_true rfl) (lv' := [(2, .int 0), (0, .ref b), (1, .ref (b + p0))]) rfl (fun ls hl => ?_)
  obtain ⟨X1, h, hJ1⟩ := ob1_u h
  have J1 : ∀ (σ19 : TS), X1 = σ19 → ∀ (H : Heap) (locs : List Loc) (ls : Array Slot), gJ D clX L0 A s.heap (twG dA b σ19 G0) sz H locs → lv_has ls 5 [] → W p l e R s m args below meth c H locs 0 0 Q (F0 m 89 ls []) := by
    intro σ19 e0 H locs ls hG hl
    have h := hJ1 σ19 e0
    have h := Option.some.inj h
    subst h
    exact g_vret hQ hG ⟨rfl, rfl, rfl⟩ (Nat.le_refl _) (Nat.le_refl _) dX6_polls_89
  have LL1 : ∀ (n : Nat) (y2 : Int32) (σ3 : TS), t_X6_polls_L1 p0 n y2 σ3 = some X1 → ∀ (H : Heap) (locs : List Loc) (ls : Array Slot), gJ D clX L0 A s.heap (twG dA b σ3 G0) sz H locs → lv_has ls 5 [(0, .ref b), (1, .ref (b + p0)), (2, .int y2)] → W p l e R s m args below meth c H locs 0 0 Q (F0 m 2 ls []) := by
    intro n
    induction n with
    | zero =>
      intro y2 σ3 h
      rw [t_X6_polls_L1] at h
      cases h
    | succ n ihL1 =>
      intro y2 σ3 h H locs ls hG hl
      rw [t_X6_polls_L1] at h
      refine lv_iload_n hx hb dX6_polls_2 rfl (lv_at hl 2 rfl) ?_
      refine lv_aload_n hx hb dX6_polls_3 rfl (lv_at hl 0 rfl) ?_
      refine tw_getI hF hG 1 (by decide) q1834 rfl dX6_polls_4 ?_
      refine gb_icmp_ge hx hb dX6_polls_7 (tgt := 89) (by decide) h (fun h => ?_) (fun h => ?_)
      · exact J1 _ (Option.some.inj h).symm _ _ _ hG (lv_sub hl [] rfl)
      · refine lv_aload_n hx hb dX6_polls_10 rfl (lv_at hl 1 rfl) ?_
        refine lv_iload_n hx hb dX6_polls_11 rfl (lv_at hl 2 rfl) ?_
        refine lv_bipush (v := 9) hx hb dX6_polls_12 (by decide) ?_
        refine k_X6_at hF hL0 hG hl (Nat.le_of_ble_eq_true rfl) (Nat.le_of_ble_eq_true rfl) h ⟨Nat.le_of_ble_eq_true rfl, Nat.le_of_ble_eq_true rfl⟩ (Nat.le_of_ble_eq_true rfl) dX6_polls_14 (fun v4 H locs h hG => ?_)
        refine tw_rd hF hG (j := p0) hj0 h dX6_polls_17 (fun v5 h => ?_)
        refine lv_istore_n hx hb dX6_polls_18 rfl hl (Nat.le_of_ble_eq_true rfl) (lv' := [(3, .int v5), (0, .ref b), (1, .ref (b + p0)), (2, .int y2)]) rfl (fun ls hl => ?_)
        refine lv_aload_n hx hb dX6_polls_19 rfl (lv_at hl 2 rfl) ?_
        refine lv_iconst (v := 0) hx hb dX6_polls_20 (by decide) ?_
        refine tw_rd hF hG (j := p0) hj0 h dX6_polls_21 (fun v6 h => ?_)
        refine lv_aload_n hx hb dX6_polls_22 rfl (lv_at hl 2 rfl) ?_
        refine lv_iload_n hx hb dX6_polls_23 rfl (lv_at hl 3 rfl) ?_
        refine lv_bipush (v := 10) hx hb dX6_polls_24 (by decide) ?_
        refine k_X6_at hF hL0 hG hl (Nat.le_of_ble_eq_true rfl) (Nat.le_of_ble_eq_true rfl) h ⟨Nat.le_of_ble_eq_true rfl, Nat.le_of_ble_eq_true rfl⟩ (Nat.le_of_ble_eq_true rfl) dX6_polls_26 (fun v7 H locs h hG => ?_)
        refine tw_rd hF hG (j := p0) hj0 h dX6_polls_29 (fun v8 h => ?_)
        refine lv_isub hx hb dX6_polls_30 ?_
        refine gb_nm h (fun x9 h => ?_)
        refine lv_istore hx hb dX6_polls_31 hl (Nat.le_of_ble_eq_true rfl) (lv' := [(4, .int x9), (3, .int v5), (0, .ref b), (1, .ref (b + p0)), (2, .int y2)]) rfl (fun ls hl => ?_)
        refine lv_iload_n hx hb dX6_polls_33 rfl (lv_at hl 1 rfl) ?_
        refine lv_iconst (v := 2) hx hb dX6_polls_34 (by decide) ?_
        obtain ⟨X2, h, hJ2⟩ := ob1_u h
        have J2 : ∀ (σ17 : TS), X2 = σ17 → ∀ (H : Heap) (locs : List Loc) (ls : Array Slot), gJ D clX L0 A s.heap (twG dA b σ17 G0) sz H locs → lv_has ls 5 [(0, .ref b), (1, .ref (b + p0)), (2, .int y2)] → W p l e R s m args below meth c H locs 0 0 Q (F0 m 83 ls []) := by
          intro σ17 e0 H locs ls hG hl
          have h := hJ2 σ17 e0
          refine gb_iinc (k' := 1) hx hb dX6_polls_83 hl (k := 2) rfl (by decide) (Nat.le_of_ble_eq_true rfl) h (fun x18 ls h hl => ?_)
          have hl : lv_has ls 5 [(2, .int x18), (0, .ref b), (1, .ref (b + p0))] := hl
          refine lv_goto hx hb dX6_polls_86 (tgt := 2) (by decide) ?_
          exact ihL1 _ _ h _ _ _ hG (lv_sub hl [1, 2, 0] rfl)
        refine gb_icmp_lt hx hb dX6_polls_35 (tgt := 83) (by decide) h (fun h => ?_) (fun h => ?_)
        · exact J2 _ (Option.some.inj h).symm _ _ _ hG (lv_sub hl [2, 3, 4] rfl)
        · refine lv_iload hx hb dX6_polls_38 (lv_at hl 0 rfl) ?_
          refine lv_iload_n hx hb dX6_polls_40 rfl (lv_at hl 1 rfl) ?_
          refine lv_iconst (v := 2) hx hb dX6_polls_41 (by decide) ?_
          obtain ⟨X3, h, hJ3⟩ := ob1_u h
          have J3 : ∀ (z12 : Int32), X3 = z12 → ∀ (H : Heap) (locs : List Loc) (ls : Array Slot), gJ D clX L0 A s.heap (twG dA b σ3 G0) sz H locs → lv_has ls 5 [(0, .ref b), (1, .ref (b + p0)), (2, .int y2)] → W p l e R s m args below meth c H locs 0 0 Q (F0 m 58 ls [.int z12, .int x9]) := by
            intro z12 e0 H locs ls hG hl
            have h := hJ3 z12 e0
            refine gb_icmp_ge hx hb dX6_polls_58 (tgt := 64) (by decide) h (fun h => ?_) (fun h => ?_)
            · refine lv_aload_n hx hb dX6_polls_64 rfl (lv_at hl 0 rfl) ?_
              refine lv_aload_n hx hb dX6_polls_65 rfl (lv_at hl 1 rfl) ?_
              refine lv_iconst (v := 5) hx hb dX6_polls_66 (by decide) ?_
              refine lv_iload_n hx hb dX6_polls_67 rfl (lv_at hl 2 rfl) ?_
              refine lv_iconst (v := (-1)) hx hb dX6_polls_68 (by decide) ?_
              refine k_X6_sends hF hL0 hG hl (Nat.le_of_ble_eq_true rfl) (Nat.le_of_ble_eq_true rfl) hj0 h ⟨Nat.le_of_ble_eq_true rfl, Nat.le_of_ble_eq_true rfl⟩ (Nat.le_of_ble_eq_true rfl) dX6_polls_69 (fun σ13 H locs h hG => ?_)
              refine lv_aload_n hx hb dX6_polls_72 rfl (lv_at hl 1 rfl) ?_
              refine lv_iload_n hx hb dX6_polls_73 rfl (lv_at hl 2 rfl) ?_
              refine lv_bipush (v := 10) hx hb dX6_polls_74 (by decide) ?_
              refine k_X6_at hF hL0 hG hl (Nat.le_of_ble_eq_true rfl) (Nat.le_of_ble_eq_true rfl) h ⟨Nat.le_of_ble_eq_true rfl, Nat.le_of_ble_eq_true rfl⟩ (Nat.le_of_ble_eq_true rfl) dX6_polls_76 (fun v14 H locs h hG => ?_)
              refine lv_aload_n hx hb dX6_polls_79 rfl (lv_at hl 1 rfl) ?_
              refine lv_iconst (v := 0) hx hb dX6_polls_80 (by decide) ?_
              refine tw_rd hF hG (j := p0) hj0 h dX6_polls_81 (fun v15 h => ?_)
              refine tw_wr hF hL0 hG (j := p0) hj0 h dX6_polls_82 (fun σ16 H locs h hG => ?_)
              exact J2 _ (Option.some.inj h).symm _ _ _ hG hl
            · refine lv_goto hx hb dX6_polls_61 (tgt := 83) (by decide) ?_
              exact J2 _ (Option.some.inj h).symm _ _ _ hG hl
          refine gb_icmp_ne hx hb dX6_polls_42 (tgt := 52) (by decide) h (fun h => ?_) (fun h => ?_)
          · refine lv_iconst (v := 5) hx hb dX6_polls_52 (by decide) ?_
            refine lv_aload_n hx hb dX6_polls_53 rfl (lv_at hl 3 rfl) ?_
            refine lv_bipush (v := 8) hx hb dX6_polls_54 (by decide) ?_
            refine tw_rd hF hG (j := p0) hj0 h dX6_polls_56 (fun v10 h => ?_)
            refine lv_imul hx hb dX6_polls_57 ?_
            exact J3 _ (Option.some.inj h).symm _ _ _ hG (lv_sub hl [2, 3, 4] rfl)
          · refine lv_aload_n hx hb dX6_polls_45 rfl (lv_at hl 3 rfl) ?_
            refine lv_bipush (v := 8) hx hb dX6_polls_46 (by decide) ?_
            refine tw_rd hF hG (j := p0) hj0 h dX6_polls_48 (fun v11 h => ?_)
            refine lv_goto hx hb dX6_polls_49 (tgt := 58) (by decide) ?_
            exact J3 _ (Option.some.inj h).symm _ _ _ hG (lv_sub hl [2, 3, 4] rfl)
  exact LL1 _ _ _ h _ _ _ hG (lv_sub hl [1, 2, 0] rfl)
theorem k_X6_polls (hF : gX p m c cc nL s args RX6 D clX (tyA dA) K A R rm) (hL0 : L0 ≤ b) (hG : gJ D clX L0 A s.heap (twG dA b σ G0) n H locs) (hl : lv_has ls nL lv) (h1 : 1 + 1 ≤ rm.frames) (h2 : 8 + (5 + 11) + 26 ≤ rm.locals) {p0 : Nat} (hj0 : twI p0) {γ : Type} {f : TS → Option γ} {o : γ} (h : ob1 (t_X6_polls σ p0) f = some o) (hc : cells ≤ rm.cells ∧ slots ≤ rm.slots) (hW : (rest.map fun v => v.category).sum ≤ 8) (hdg : decode cc pc = .ok (.invokevirtual 289, 3))
    (kk : ∀ (σ1 : TS) (H1 : Heap) (locs1 : List Loc), f σ1 = some o → gJ D clX L0 A s.heap (twG dA b σ1 G0) n H1 locs1 → W p l e R s m args below meth c H1 locs1 cells slots Q (F0 m (pc + 3) ls rest)) : W p l e R s m args below meth c H locs cells slots Q (F0 m pc ls (.ref (b + p0) :: .ref b :: rest)) := by
  obtain ⟨r, hr, h⟩ := ob1_e h
  refine g_callV hF hG hl twG_obj (C := RX6) (T := TX6) (N := 35) rfl (w_X6_polls hF.2.2.1 hL0 σ p0 hj0 hr) (cwV 1 hF.1.2.2.2.2 (lw_V q2226 q2228 qs79 q108 q2229) rfl rfl rfl (by decide +kernel) (g_room hF h1 h2)) rfl rfl hW hdg ⟨by rw [hF.2.2.2.2]; exact hc.1, by rw [hF.2.2.2.2]; exact hc.2⟩ (fun v G1 n1 H1 locs1 hR hG1 => ?_)
  obtain ⟨rfl, rfl, rfl⟩ := hR
  exact kk r H1 locs1 h hG1
/-! ticks -/
def t_X6_ticks_L1 (p0 : Nat) : Nat → Int32 → TS → Option (TS)
  | 0, _, _ => none
  | n + 1, y2, σ3 =>
    if (σ3.1 4) ≤ y2 then (
    some σ3)
    else (
    ob1 (T_rd σ3 4 (2 * y2)) fun (v4 : Int32) =>
    ob1 (T_rd σ3 p0 0) fun (v5 : Int32) =>
    ob1 (
    if v4 = v5 then (
    ob1 (T_rd σ3 4 ((2 * y2) + 1)) fun (v6 : Int32) =>
    ob1 (t_X6_darkens σ3 p0 v6) fun (σ7 : TS) =>
    some σ7)
    else (
    some σ3)) fun (σ8 : TS) =>
    nm (y2 + 1) fun (x9 : Int32) =>
    t_X6_ticks_L1 p0 n x9 σ8)
def t_X6_ticks_L13 (p0 : Nat) (v12 : Int32) : Nat → Int32 → TS → Option (TS)
  | 0, _, _ => none
  | n + 1, y14, σ15 =>
    if v12 ≤ y14 then (
    some σ15)
    else (
    ob1 (t_X6_receives σ15 p0 (195 + (3 * y14))) fun (σ16 : TS) =>
    nm (y14 + 1) fun (x17 : Int32) =>
    t_X6_ticks_L13 p0 v12 n x17 σ16)
def t_X6_ticks_L21 (p0 : Nat) : Nat → Int32 → TS → Option (TS)
  | 0, _, _ => none
  | n + 1, y22, σ23 =>
    if (σ23.1 1) ≤ y22 then (
    some σ23)
    else (
    ob1 (t_X6_acts σ23 p0 y22) fun (σ24 : TS) =>
    nm (y22 + 1) fun (x25 : Int32) =>
    t_X6_ticks_L21 p0 n x25 σ24)
def t_X6_ticks_L35 (p0 : Nat) : Nat → Int32 → TS → Option (TS)
  | 0, _, _ => none
  | n + 1, y36, σ37 =>
    if (σ37.1 1) ≤ y36 then (
    some σ37)
    else (
    ob1 (t_X6_at y36 2) fun (v38 : Int32) =>
    ob1 (T_rd σ37 p0 v38) fun (v39 : Int32) =>
    ob1 (
    if v39 = 2 then (
    ob1 (t_X6_at y36 3) fun (v40 : Int32) =>
    ob1 (T_rd σ37 p0 v40) fun (v41 : Int32) =>
    ob1 (T_wr σ37 p0 v40 (v41 - 1)) fun (σ42 : TS) =>
    some σ42)
    else (
    some σ37)) fun (σ43 : TS) =>
    nm (y36 + 1) fun (x44 : Int32) =>
    t_X6_ticks_L35 p0 n x44 σ43)
def t_X6_ticks (σ : TS) (p0 : Nat) : Option (Int32 × TS) :=
ob1 (
t_X6_ticks_L1 p0 4096 0 σ) fun (σ10 : TS) =>
ob1 (t_X6_isDark σ10 p0) fun (v11 : Int32) =>
if v11 = 0 then (
ob1 (T_rd σ10 p0 11) fun (v12 : Int32) =>
ob1 (
t_X6_ticks_L13 p0 v12 4096 0 σ10) fun (σ18 : TS) =>
ob1 (T_wr σ18 p0 11 0) fun (σ19 : TS) =>
ob1 (t_X6_learns σ19 p0) fun (σ20 : TS) =>
ob1 (
t_X6_ticks_L21 p0 4096 0 σ20) fun (σ26 : TS) =>
ob1 (t_X6_polls σ26 p0) fun (σ27 : TS) =>
ob2 (t_X6_grantsOf σ27 p0 1) fun (v28 : Int32) (σ29 : TS) =>
ob1 (t_X6_drawn σ29 p0) fun (v30 : Int32) =>
ob1 (T_rd σ29 p0 10) fun (v31 : Int32) =>
ob1 (
if v30 ≤ v31 then (
ob1 (T_rd σ29 p0 10) fun (v32 : Int32) =>
some v32)
else (
some v30)) fun (z33 : Int32) =>
ob1 (T_wr σ29 p0 10 z33) fun (σ34 : TS) =>
ob1 (
t_X6_ticks_L35 p0 4096 0 σ34) fun (σ45 : TS) =>
ob1 (T_rd σ45 p0 0) fun (v46 : Int32) =>
ob1 (T_wr σ45 p0 0 (v46 + 1)) fun (σ47 : TS) =>
ob1 (T_rd σ47 p0 6) fun (v48 : Int32) =>
if v30 ≤ v48 then (
some (v30, σ47))
else (
ob1 (T_rd σ47 p0 3) fun (v49 : Int32) =>
ob1 (T_wr σ47 p0 3 (v49 + 1)) fun (σ50 : TS) =>
ob1 (t_X6_darkens σ50 p0 5) fun (σ51 : TS) =>
some (v30, σ51)))
else (
ob1 (T_rd σ10 p0 0) fun (v52 : Int32) =>
ob1 (T_wr σ10 p0 0 (v52 + 1)) fun (σ53 : TS) =>
some (0, σ53))
set_option maxRecDepth 100000 in
theorem w_X6_ticks {l : Launch} {D : va_G} {dA : Nat → ClassId} {K : gKT} {L0 b sz : Nat} {G0 : GH} (hKo : gKo D clX (tyA dA) K) (hL0 : L0 ≤ b) (σ : TS) (p0 : Nat) (hj0 : twI p0) {out : Int32 × TS} (h : t_X6_ticks σ p0 = some out) : gMet l yX6_ticks (ws_ yX6_ticks cX6_ticks 6 (some .int)) D clX L0 K [.ref b, .ref (b + p0)] (twG dA b σ G0) sz 5 116 0 0 (twRI dA b out.2 G0 sz out.1) := by
  refine gMet.of (own := RX6) hKo (by decide +kernel) (Nat.le_of_ble_eq_true rfl) rfl ?_
  intro p e R s m args below meth c A Q ls H hF hQ hin hG hl
  have hx := hF.1.1
  have hb := hF.1.2.1
  have hts := hF.1.2.2.2.2
  have hl : lv_has ls 6 [(0, .ref b), (1, .ref (b + p0))] := hl
  unfold t_X6_ticks at h
  refine lv_iconst (v := 0) hx hb dX6_ticks_0 (by decide) ?_
  refine lv_istore_n hx hb dX6_ticks_1 rfl hl (Nat.le_of_ble_eq_true rfl) (lv' := [(2, .int 0), (0, .ref b), (1, .ref (b + p0))]) rfl (fun ls hl => ?_)
  obtain ⟨X1, h, hJ1⟩ := ob1_u h
  have J1 : ∀ (σ10 : TS), X1 = σ10 → ∀ (H : Heap) (locs : List Loc) (ls : Array Slot), gJ D clX L0 A s.heap (twG dA b σ10 G0) sz H locs → lv_has ls 6 [(0, .ref b), (1, .ref (b + p0))] → W p l e R s m args below meth c H locs 0 0 Q (F0 m 45 ls []) := by
    intro σ10 e0 H locs ls hG hl
    have h := hJ1 σ10 e0
    refine lv_aload_n hx hb dX6_ticks_45 rfl (lv_at hl 0 rfl) ?_
    refine lv_aload_n hx hb dX6_ticks_46 rfl (lv_at hl 1 rfl) ?_
    refine k_X6_isDark hF hL0 hG hl (Nat.le_of_ble_eq_true rfl) (Nat.le_of_ble_eq_true rfl) hj0 h ⟨Nat.le_of_ble_eq_true rfl, Nat.le_of_ble_eq_true rfl⟩ (Nat.le_of_ble_eq_true rfl) dX6_ticks_47 (fun v11 H locs h hG => ?_)
    refine gb_if_eq hx hb dX6_ticks_50 (tgt := 62) (by decide) h (fun h => ?_) (fun h => ?_)
    · refine lv_aload_n hx hb dX6_ticks_62 rfl (lv_at hl 1 rfl) ?_
      refine lv_bipush (v := 11) hx hb dX6_ticks_63 (by decide) ?_
      refine tw_rd hF hG (j := p0) hj0 h dX6_ticks_65 (fun v12 h => ?_)
      refine lv_istore_n hx hb dX6_ticks_66 rfl hl (Nat.le_of_ble_eq_true rfl) (lv' := [(2, .int v12), (0, .ref b), (1, .ref (b + p0))]) rfl (fun ls hl => ?_)
      refine lv_iconst (v := 0) hx hb dX6_ticks_67 (by decide) ?_
      refine lv_istore_n hx hb dX6_ticks_68 rfl hl (Nat.le_of_ble_eq_true rfl) (lv' := [(3, .int 0), (2, .int v12), (0, .ref b), (1, .ref (b + p0))]) rfl (fun ls hl => ?_)
      obtain ⟨X2, h, hJ2⟩ := ob1_u h
      have J2 : ∀ (σ18 : TS), X2 = σ18 → ∀ (H : Heap) (locs : List Loc) (ls : Array Slot), gJ D clX L0 A s.heap (twG dA b σ18 G0) sz H locs → lv_has ls 6 [(0, .ref b), (1, .ref (b + p0))] → W p l e R s m args below meth c H locs 0 0 Q (F0 m 92 ls []) := by
        intro σ18 e0 H locs ls hG hl
        have h := hJ2 σ18 e0
        refine lv_aload_n hx hb dX6_ticks_92 rfl (lv_at hl 1 rfl) ?_
        refine lv_bipush (v := 11) hx hb dX6_ticks_93 (by decide) ?_
        refine lv_iconst (v := 0) hx hb dX6_ticks_95 (by decide) ?_
        refine tw_wr hF hL0 hG (j := p0) hj0 h dX6_ticks_96 (fun σ19 H locs h hG => ?_)
        refine lv_aload_n hx hb dX6_ticks_97 rfl (lv_at hl 0 rfl) ?_
        refine lv_aload_n hx hb dX6_ticks_98 rfl (lv_at hl 1 rfl) ?_
        refine k_X6_learns hF hL0 hG hl (Nat.le_of_ble_eq_true rfl) (Nat.le_of_ble_eq_true rfl) hj0 h ⟨Nat.le_of_ble_eq_true rfl, Nat.le_of_ble_eq_true rfl⟩ (Nat.le_of_ble_eq_true rfl) dX6_ticks_99 (fun σ20 H locs h hG => ?_)
        refine lv_iconst (v := 0) hx hb dX6_ticks_102 (by decide) ?_
        refine lv_istore_n hx hb dX6_ticks_103 rfl hl (Nat.le_of_ble_eq_true rfl) (lv' := [(3, .int 0), (0, .ref b), (1, .ref (b + p0))]) rfl (fun ls hl => ?_)
        obtain ⟨X3, h, hJ3⟩ := ob1_u h
        have J3 : ∀ (σ26 : TS), X3 = σ26 → ∀ (H : Heap) (locs : List Loc) (ls : Array Slot), gJ D clX L0 A s.heap (twG dA b σ26 G0) sz H locs → lv_has ls 6 [(0, .ref b), (1, .ref (b + p0))] → W p l e R s m args below meth c H locs 0 0 Q (F0 m 124 ls []) := by
          intro σ26 e0 H locs ls hG hl
          have h := hJ3 σ26 e0
          refine lv_aload_n hx hb dX6_ticks_124 rfl (lv_at hl 0 rfl) ?_
          refine lv_aload_n hx hb dX6_ticks_125 rfl (lv_at hl 1 rfl) ?_
          refine k_X6_polls hF hL0 hG hl (Nat.le_of_ble_eq_true rfl) (Nat.le_of_ble_eq_true rfl) hj0 h ⟨Nat.le_of_ble_eq_true rfl, Nat.le_of_ble_eq_true rfl⟩ (Nat.le_of_ble_eq_true rfl) dX6_ticks_126 (fun σ27 H locs h hG => ?_)
          refine lv_aload_n hx hb dX6_ticks_129 rfl (lv_at hl 0 rfl) ?_
          refine lv_aload_n hx hb dX6_ticks_130 rfl (lv_at hl 1 rfl) ?_
          refine lv_iconst (v := 1) hx hb dX6_ticks_131 (by decide) ?_
          refine k_X6_grantsOf hF hL0 hG hl (Nat.le_of_ble_eq_true rfl) (Nat.le_of_ble_eq_true rfl) hj0 h ⟨Nat.le_of_ble_eq_true rfl, Nat.le_of_ble_eq_true rfl⟩ (Nat.le_of_ble_eq_true rfl) dX6_ticks_132 (fun v28 σ29 H locs h hG => ?_)
          refine lv_istore_n hx hb dX6_ticks_135 rfl hl (Nat.le_of_ble_eq_true rfl) (lv' := [(3, .int v28), (0, .ref b), (1, .ref (b + p0))]) rfl (fun ls hl => ?_)
          refine lv_aload_n hx hb dX6_ticks_136 rfl (lv_at hl 1 rfl) ?_
          refine lv_aload_n hx hb dX6_ticks_137 rfl (lv_at hl 2 rfl) ?_
          refine k_X6_drawn hF hL0 hG hl (Nat.le_of_ble_eq_true rfl) (Nat.le_of_ble_eq_true rfl) hj0 h ⟨Nat.le_of_ble_eq_true rfl, Nat.le_of_ble_eq_true rfl⟩ (Nat.le_of_ble_eq_true rfl) dX6_ticks_138 (fun v30 H locs h hG => ?_)
          refine lv_istore hx hb dX6_ticks_141 hl (Nat.le_of_ble_eq_true rfl) (lv' := [(4, .int v30), (3, .int v28), (0, .ref b), (1, .ref (b + p0))]) rfl (fun ls hl => ?_)
          refine lv_aload_n hx hb dX6_ticks_143 rfl (lv_at hl 3 rfl) ?_
          refine lv_bipush (v := 10) hx hb dX6_ticks_144 (by decide) ?_
          refine lv_iload hx hb dX6_ticks_146 (lv_at hl 0 rfl) ?_
          refine lv_aload_n hx hb dX6_ticks_148 rfl (lv_at hl 3 rfl) ?_
          refine lv_bipush (v := 10) hx hb dX6_ticks_149 (by decide) ?_
          refine tw_rd hF hG (j := p0) hj0 h dX6_ticks_151 (fun v31 h => ?_)
          obtain ⟨X4, h, hJ4⟩ := ob1_u h
          have J4 : ∀ (z33 : Int32), X4 = z33 → ∀ (H : Heap) (locs : List Loc) (ls : Array Slot), gJ D clX L0 A s.heap (twG dA b σ29 G0) sz H locs → lv_has ls 6 [(0, .ref b), (1, .ref (b + p0)), (4, .int v30)] → W p l e R s m args below meth c H locs 0 0 Q (F0 m 164 ls [.int z33, .int 10, .ref (b + p0)]) := by
            intro z33 e0 H locs ls hG hl
            have h := hJ4 z33 e0
            refine tw_wr hF hL0 hG (j := p0) hj0 h dX6_ticks_164 (fun σ34 H locs h hG => ?_)
            refine lv_iconst (v := 0) hx hb dX6_ticks_165 (by decide) ?_
            refine lv_istore hx hb dX6_ticks_166 hl (Nat.le_of_ble_eq_true rfl) (lv' := [(5, .int 0), (0, .ref b), (1, .ref (b + p0)), (4, .int v30)]) rfl (fun ls hl => ?_)
            obtain ⟨X5, h, hJ5⟩ := ob1_u h
            have J5 : ∀ (σ45 : TS), X5 = σ45 → ∀ (H : Heap) (locs : List Loc) (ls : Array Slot), gJ D clX L0 A s.heap (twG dA b σ45 G0) sz H locs → lv_has ls 6 [(0, .ref b), (1, .ref (b + p0)), (4, .int v30)] → W p l e R s m args below meth c H locs 0 0 Q (F0 m 207 ls []) := by
              intro σ45 e0 H locs ls hG hl
              have h := hJ5 σ45 e0
              refine lv_aload_n hx hb dX6_ticks_207 rfl (lv_at hl 1 rfl) ?_
              refine lv_iconst (v := 0) hx hb dX6_ticks_208 (by decide) ?_
              refine lv_dup2_11 hx hb dX6_ticks_209 rfl rfl ?_
              refine tw_rd hF hG (j := p0) hj0 h dX6_ticks_210 (fun v46 h => ?_)
              refine lv_iconst (v := 1) hx hb dX6_ticks_211 (by decide) ?_
              refine lv_iadd hx hb dX6_ticks_212 ?_
              refine tw_wr hF hL0 hG (j := p0) hj0 h dX6_ticks_213 (fun σ47 H locs h hG => ?_)
              refine lv_iload hx hb dX6_ticks_214 (lv_at hl 2 rfl) ?_
              refine lv_aload_n hx hb dX6_ticks_216 rfl (lv_at hl 1 rfl) ?_
              refine lv_bipush (v := 6) hx hb dX6_ticks_217 (by decide) ?_
              refine tw_rd hF hG (j := p0) hj0 h dX6_ticks_219 (fun v48 h => ?_)
              refine gb_icmp_le hx hb dX6_ticks_220 (tgt := 236) (by decide) h (fun h => ?_) (fun h => ?_)
              · refine lv_iload hx hb dX6_ticks_236 (lv_at hl 2 rfl) ?_
                have h := Option.some.inj h
                subst h
                exact g_iret hQ hG ⟨rfl, rfl, rfl⟩ (Nat.le_refl _) (Nat.le_refl _) dX6_ticks_238
              · refine lv_aload_n hx hb dX6_ticks_223 rfl (lv_at hl 1 rfl) ?_
                refine lv_iconst (v := 3) hx hb dX6_ticks_224 (by decide) ?_
                refine lv_dup2_11 hx hb dX6_ticks_225 rfl rfl ?_
                refine tw_rd hF hG (j := p0) hj0 h dX6_ticks_226 (fun v49 h => ?_)
                refine lv_iconst (v := 1) hx hb dX6_ticks_227 (by decide) ?_
                refine lv_iadd hx hb dX6_ticks_228 ?_
                refine tw_wr hF hL0 hG (j := p0) hj0 h dX6_ticks_229 (fun σ50 H locs h hG => ?_)
                refine lv_aload_n hx hb dX6_ticks_230 rfl (lv_at hl 0 rfl) ?_
                refine lv_aload_n hx hb dX6_ticks_231 rfl (lv_at hl 1 rfl) ?_
                refine lv_iconst (v := 5) hx hb dX6_ticks_232 (by decide) ?_
                refine k_X6_darkens hF hL0 hG hl (Nat.le_of_ble_eq_true rfl) (Nat.le_of_ble_eq_true rfl) hj0 h ⟨Nat.le_of_ble_eq_true rfl, Nat.le_of_ble_eq_true rfl⟩ (Nat.le_of_ble_eq_true rfl) dX6_ticks_233 (fun σ51 H locs h hG => ?_)
                refine lv_iload hx hb dX6_ticks_236 (lv_at hl 2 rfl) ?_
                have h := Option.some.inj h
                subst h
                exact g_iret hQ hG ⟨rfl, rfl, rfl⟩ (Nat.le_refl _) (Nat.le_refl _) dX6_ticks_238
            have LL35 : ∀ (n : Nat) (y36 : Int32) (σ37 : TS), t_X6_ticks_L35 p0 n y36 σ37 = some X5 → ∀ (H : Heap) (locs : List Loc) (ls : Array Slot), gJ D clX L0 A s.heap (twG dA b σ37 G0) sz H locs → lv_has ls 6 [(0, .ref b), (1, .ref (b + p0)), (4, .int v30), (5, .int y36)] → W p l e R s m args below meth c H locs 0 0 Q (F0 m 168 ls []) := by
              intro n
              induction n with
              | zero =>
                intro y36 σ37 h
                rw [t_X6_ticks_L35] at h
                cases h
              | succ n ihL35 =>
                intro y36 σ37 h H locs ls hG hl
                rw [t_X6_ticks_L35] at h
                refine lv_iload hx hb dX6_ticks_168 (lv_at hl 3 rfl) ?_
                refine lv_aload_n hx hb dX6_ticks_170 rfl (lv_at hl 0 rfl) ?_
                refine tw_getI hF hG 1 (by decide) q1834 rfl dX6_ticks_171 ?_
                refine gb_icmp_ge hx hb dX6_ticks_174 (tgt := 207) (by decide) h (fun h => ?_) (fun h => ?_)
                · exact J5 _ (Option.some.inj h).symm _ _ _ hG (lv_sub hl [0, 1, 2] rfl)
                · refine lv_aload_n hx hb dX6_ticks_177 rfl (lv_at hl 1 rfl) ?_
                  refine lv_iload hx hb dX6_ticks_178 (lv_at hl 3 rfl) ?_
                  refine lv_iconst (v := 2) hx hb dX6_ticks_180 (by decide) ?_
                  refine k_X6_at hF hL0 hG hl (Nat.le_of_ble_eq_true rfl) (Nat.le_of_ble_eq_true rfl) h ⟨Nat.le_of_ble_eq_true rfl, Nat.le_of_ble_eq_true rfl⟩ (Nat.le_of_ble_eq_true rfl) dX6_ticks_181 (fun v38 H locs h hG => ?_)
                  refine tw_rd hF hG (j := p0) hj0 h dX6_ticks_184 (fun v39 h => ?_)
                  refine lv_iconst (v := 2) hx hb dX6_ticks_185 (by decide) ?_
                  obtain ⟨X6, h, hJ6⟩ := ob1_u h
                  have J6 : ∀ (σ43 : TS), X6 = σ43 → ∀ (H : Heap) (locs : List Loc) (ls : Array Slot), gJ D clX L0 A s.heap (twG dA b σ43 G0) sz H locs → lv_has ls 6 [(0, .ref b), (1, .ref (b + p0)), (4, .int v30), (5, .int y36)] → W p l e R s m args below meth c H locs 0 0 Q (F0 m 201 ls []) := by
                    intro σ43 e0 H locs ls hG hl
                    have h := hJ6 σ43 e0
                    refine gb_iinc (k' := 1) hx hb dX6_ticks_201 hl (k := 3) rfl (by decide) (Nat.le_of_ble_eq_true rfl) h (fun x44 ls h hl => ?_)
                    have hl : lv_has ls 6 [(5, .int x44), (0, .ref b), (1, .ref (b + p0)), (4, .int v30)] := hl
                    refine lv_goto hx hb dX6_ticks_204 (tgt := 168) (by decide) ?_
                    exact ihL35 _ _ h _ _ _ hG (lv_sub hl [1, 2, 3, 0] rfl)
                  refine gb_icmp_ne hx hb dX6_ticks_186 (tgt := 201) (by decide) h (fun h => ?_) (fun h => ?_)
                  · exact J6 _ (Option.some.inj h).symm _ _ _ hG hl
                  · refine lv_aload_n hx hb dX6_ticks_189 rfl (lv_at hl 1 rfl) ?_
                    refine lv_iload hx hb dX6_ticks_190 (lv_at hl 3 rfl) ?_
                    refine lv_iconst (v := 3) hx hb dX6_ticks_192 (by decide) ?_
                    refine k_X6_at hF hL0 hG hl (Nat.le_of_ble_eq_true rfl) (Nat.le_of_ble_eq_true rfl) h ⟨Nat.le_of_ble_eq_true rfl, Nat.le_of_ble_eq_true rfl⟩ (Nat.le_of_ble_eq_true rfl) dX6_ticks_193 (fun v40 H locs h hG => ?_)
                    refine lv_dup2_11 hx hb dX6_ticks_196 rfl rfl ?_
                    refine tw_rd hF hG (j := p0) hj0 h dX6_ticks_197 (fun v41 h => ?_)
                    refine lv_iconst (v := 1) hx hb dX6_ticks_198 (by decide) ?_
                    refine lv_isub hx hb dX6_ticks_199 ?_
                    refine tw_wr hF hL0 hG (j := p0) hj0 h dX6_ticks_200 (fun σ42 H locs h hG => ?_)
                    exact J6 _ (Option.some.inj h).symm _ _ _ hG hl
            exact LL35 _ _ _ h _ _ _ hG (lv_sub hl [1, 2, 3, 0] rfl)
          refine gb_icmp_le hx hb dX6_ticks_152 (tgt := 160) (by decide) h (fun h => ?_) (fun h => ?_)
          · refine lv_aload_n hx hb dX6_ticks_160 rfl (lv_at hl 3 rfl) ?_
            refine lv_bipush (v := 10) hx hb dX6_ticks_161 (by decide) ?_
            refine tw_rd hF hG (j := p0) hj0 h dX6_ticks_163 (fun v32 h => ?_)
            exact J4 _ (Option.some.inj h).symm _ _ _ hG (lv_sub hl [2, 3, 0] rfl)
          · refine lv_iload hx hb dX6_ticks_155 (lv_at hl 0 rfl) ?_
            refine lv_goto hx hb dX6_ticks_157 (tgt := 164) (by decide) ?_
            exact J4 _ (Option.some.inj h).symm _ _ _ hG (lv_sub hl [2, 3, 0] rfl)
        have LL21 : ∀ (n : Nat) (y22 : Int32) (σ23 : TS), t_X6_ticks_L21 p0 n y22 σ23 = some X3 → ∀ (H : Heap) (locs : List Loc) (ls : Array Slot), gJ D clX L0 A s.heap (twG dA b σ23 G0) sz H locs → lv_has ls 6 [(0, .ref b), (1, .ref (b + p0)), (3, .int y22)] → W p l e R s m args below meth c H locs 0 0 Q (F0 m 104 ls []) := by
          intro n
          induction n with
          | zero =>
            intro y22 σ23 h
            rw [t_X6_ticks_L21] at h
            cases h
          | succ n ihL21 =>
            intro y22 σ23 h H locs ls hG hl
            rw [t_X6_ticks_L21] at h
            refine lv_iload_n hx hb dX6_ticks_104 rfl (lv_at hl 2 rfl) ?_
            refine lv_aload_n hx hb dX6_ticks_105 rfl (lv_at hl 0 rfl) ?_
            refine tw_getI hF hG 1 (by decide) q1834 rfl dX6_ticks_106 ?_
            refine gb_icmp_ge hx hb dX6_ticks_109 (tgt := 124) (by decide) h (fun h => ?_) (fun h => ?_)
            · exact J3 _ (Option.some.inj h).symm _ _ _ hG (lv_sub hl [0, 1] rfl)
            · refine lv_aload_n hx hb dX6_ticks_112 rfl (lv_at hl 0 rfl) ?_
              refine lv_aload_n hx hb dX6_ticks_113 rfl (lv_at hl 1 rfl) ?_
              refine lv_iload_n hx hb dX6_ticks_114 rfl (lv_at hl 2 rfl) ?_
              refine k_X6_acts hF hL0 hG hl (Nat.le_of_ble_eq_true rfl) (Nat.le_of_ble_eq_true rfl) hj0 h ⟨Nat.le_of_ble_eq_true rfl, Nat.le_of_ble_eq_true rfl⟩ (Nat.le_of_ble_eq_true rfl) dX6_ticks_115 (fun σ24 H locs h hG => ?_)
              refine gb_iinc (k' := 1) hx hb dX6_ticks_118 hl (k := 2) rfl (by decide) (Nat.le_of_ble_eq_true rfl) h (fun x25 ls h hl => ?_)
              have hl : lv_has ls 6 [(3, .int x25), (0, .ref b), (1, .ref (b + p0))] := hl
              refine lv_goto hx hb dX6_ticks_121 (tgt := 104) (by decide) ?_
              exact ihL21 _ _ h _ _ _ hG (lv_sub hl [1, 2, 0] rfl)
        exact LL21 _ _ _ h _ _ _ hG (lv_sub hl [1, 2, 0] rfl)
      have LL13 : ∀ (n : Nat) (y14 : Int32) (σ15 : TS), t_X6_ticks_L13 p0 v12 n y14 σ15 = some X2 → ∀ (H : Heap) (locs : List Loc) (ls : Array Slot), gJ D clX L0 A s.heap (twG dA b σ15 G0) sz H locs → lv_has ls 6 [(0, .ref b), (1, .ref (b + p0)), (2, .int v12), (3, .int y14)] → W p l e R s m args below meth c H locs 0 0 Q (F0 m 69 ls []) := by
        intro n
        induction n with
        | zero =>
          intro y14 σ15 h
          rw [t_X6_ticks_L13] at h
          cases h
        | succ n ihL13 =>
          intro y14 σ15 h H locs ls hG hl
          rw [t_X6_ticks_L13] at h
          refine lv_iload_n hx hb dX6_ticks_69 rfl (lv_at hl 3 rfl) ?_
          refine lv_iload_n hx hb dX6_ticks_70 rfl (lv_at hl 2 rfl) ?_
          refine gb_icmp_ge hx hb dX6_ticks_71 (tgt := 92) (by decide) h (fun h => ?_) (fun h => ?_)
          · exact J2 _ (Option.some.inj h).symm _ _ _ hG (lv_sub hl [0, 1] rfl)
          · refine lv_aload_n hx hb dX6_ticks_74 rfl (lv_at hl 0 rfl) ?_
            refine lv_aload_n hx hb dX6_ticks_75 rfl (lv_at hl 1 rfl) ?_
            refine lv_sipush (v := 195) hx hb dX6_ticks_76 (by decide) ?_
            refine lv_iconst (v := 3) hx hb dX6_ticks_79 (by decide) ?_
            refine lv_iload_n hx hb dX6_ticks_80 rfl (lv_at hl 3 rfl) ?_
            refine lv_imul hx hb dX6_ticks_81 ?_
            refine lv_iadd hx hb dX6_ticks_82 ?_
            refine k_X6_receives hF hL0 hG hl (Nat.le_of_ble_eq_true rfl) (Nat.le_of_ble_eq_true rfl) hj0 h ⟨Nat.le_of_ble_eq_true rfl, Nat.le_of_ble_eq_true rfl⟩ (Nat.le_of_ble_eq_true rfl) dX6_ticks_83 (fun σ16 H locs h hG => ?_)
            refine gb_iinc (k' := 1) hx hb dX6_ticks_86 hl (k := 3) rfl (by decide) (Nat.le_of_ble_eq_true rfl) h (fun x17 ls h hl => ?_)
            have hl : lv_has ls 6 [(3, .int x17), (0, .ref b), (1, .ref (b + p0)), (2, .int v12)] := hl
            refine lv_goto hx hb dX6_ticks_89 (tgt := 69) (by decide) ?_
            exact ihL13 _ _ h _ _ _ hG (lv_sub hl [1, 2, 3, 0] rfl)
      exact LL13 _ _ _ h _ _ _ hG (lv_sub hl [2, 3, 1, 0] rfl)
    · refine lv_aload_n hx hb dX6_ticks_53 rfl (lv_at hl 1 rfl) ?_
      refine lv_iconst (v := 0) hx hb dX6_ticks_54 (by decide) ?_
      refine lv_dup2_11 hx hb dX6_ticks_55 rfl rfl ?_
      refine tw_rd hF hG (j := p0) hj0 h dX6_ticks_56 (fun v52 h => ?_)
      refine lv_iconst (v := 1) hx hb dX6_ticks_57 (by decide) ?_
      refine lv_iadd hx hb dX6_ticks_58 ?_
      refine tw_wr hF hL0 hG (j := p0) hj0 h dX6_ticks_59 (fun σ53 H locs h hG => ?_)
      refine lv_iconst (v := 0) hx hb dX6_ticks_60 (by decide) ?_
      have h := Option.some.inj h
      subst h
      exact g_iret hQ hG ⟨rfl, rfl, rfl⟩ (Nat.le_refl _) (Nat.le_refl _) dX6_ticks_61
  have LL1 : ∀ (n : Nat) (y2 : Int32) (σ3 : TS), t_X6_ticks_L1 p0 n y2 σ3 = some X1 → ∀ (H : Heap) (locs : List Loc) (ls : Array Slot), gJ D clX L0 A s.heap (twG dA b σ3 G0) sz H locs → lv_has ls 6 [(0, .ref b), (1, .ref (b + p0)), (2, .int y2)] → W p l e R s m args below meth c H locs 0 0 Q (F0 m 2 ls []) := by
    intro n
    induction n with
    | zero =>
      intro y2 σ3 h
      rw [t_X6_ticks_L1] at h
      cases h
    | succ n ihL1 =>
      intro y2 σ3 h H locs ls hG hl
      rw [t_X6_ticks_L1] at h
      refine lv_iload_n hx hb dX6_ticks_2 rfl (lv_at hl 2 rfl) ?_
      refine lv_aload_n hx hb dX6_ticks_3 rfl (lv_at hl 0 rfl) ?_
      refine tw_getI hF hG 4 (by decide) q1837 rfl dX6_ticks_4 ?_
      refine gb_icmp_ge hx hb dX6_ticks_7 (tgt := 45) (by decide) h (fun h => ?_) (fun h => ?_)
      · exact J1 _ (Option.some.inj h).symm _ _ _ hG (lv_sub hl [0, 1] rfl)
      · refine lv_aload_n hx hb dX6_ticks_10 rfl (lv_at hl 0 rfl) ?_
        refine tw_getR hF hG 8 4 (by decide) q1841 rfl dX6_ticks_11 ?_
        refine lv_iconst (v := 2) hx hb dX6_ticks_14 (by decide) ?_
        refine lv_iload_n hx hb dX6_ticks_15 rfl (lv_at hl 2 rfl) ?_
        refine lv_imul hx hb dX6_ticks_16 ?_
        refine tw_rd hF hG (j := 4) (by decide) h dX6_ticks_17 (fun v4 h => ?_)
        refine lv_aload_n hx hb dX6_ticks_18 rfl (lv_at hl 1 rfl) ?_
        refine lv_iconst (v := 0) hx hb dX6_ticks_19 (by decide) ?_
        refine tw_rd hF hG (j := p0) hj0 h dX6_ticks_20 (fun v5 h => ?_)
        obtain ⟨X7, h, hJ7⟩ := ob1_u h
        have J7 : ∀ (σ8 : TS), X7 = σ8 → ∀ (H : Heap) (locs : List Loc) (ls : Array Slot), gJ D clX L0 A s.heap (twG dA b σ8 G0) sz H locs → lv_has ls 6 [(0, .ref b), (1, .ref (b + p0)), (2, .int y2)] → W p l e R s m args below meth c H locs 0 0 Q (F0 m 39 ls []) := by
          intro σ8 e0 H locs ls hG hl
          have h := hJ7 σ8 e0
          refine gb_iinc (k' := 1) hx hb dX6_ticks_39 hl (k := 2) rfl (by decide) (Nat.le_of_ble_eq_true rfl) h (fun x9 ls h hl => ?_)
          have hl : lv_has ls 6 [(2, .int x9), (0, .ref b), (1, .ref (b + p0))] := hl
          refine lv_goto hx hb dX6_ticks_42 (tgt := 2) (by decide) ?_
          exact ihL1 _ _ h _ _ _ hG (lv_sub hl [1, 2, 0] rfl)
        refine gb_icmp_ne hx hb dX6_ticks_21 (tgt := 39) (by decide) h (fun h => ?_) (fun h => ?_)
        · exact J7 _ (Option.some.inj h).symm _ _ _ hG hl
        · refine lv_aload_n hx hb dX6_ticks_24 rfl (lv_at hl 0 rfl) ?_
          refine lv_aload_n hx hb dX6_ticks_25 rfl (lv_at hl 1 rfl) ?_
          refine lv_aload_n hx hb dX6_ticks_26 rfl (lv_at hl 0 rfl) ?_
          refine tw_getR hF hG 8 4 (by decide) q1841 rfl dX6_ticks_27 ?_
          refine lv_iconst (v := 2) hx hb dX6_ticks_30 (by decide) ?_
          refine lv_iload_n hx hb dX6_ticks_31 rfl (lv_at hl 2 rfl) ?_
          refine lv_imul hx hb dX6_ticks_32 ?_
          refine lv_iconst (v := 1) hx hb dX6_ticks_33 (by decide) ?_
          refine lv_iadd hx hb dX6_ticks_34 ?_
          refine tw_rd hF hG (j := 4) (by decide) h dX6_ticks_35 (fun v6 h => ?_)
          refine k_X6_darkens hF hL0 hG hl (Nat.le_of_ble_eq_true rfl) (Nat.le_of_ble_eq_true rfl) hj0 h ⟨Nat.le_of_ble_eq_true rfl, Nat.le_of_ble_eq_true rfl⟩ (Nat.le_of_ble_eq_true rfl) dX6_ticks_36 (fun σ7 H locs h hG => ?_)
          exact J7 _ (Option.some.inj h).symm _ _ _ hG hl
  exact LL1 _ _ _ h _ _ _ hG (lv_sub hl [1, 2, 0] rfl)
theorem k_X6_ticks (hF : gX p m c cc nL s args RX6 D clX (tyA dA) K A R rm) (hL0 : L0 ≤ b) (hG : gJ D clX L0 A s.heap (twG dA b σ G0) n H locs) (hl : lv_has ls nL lv) (h1 : 5 + 1 ≤ rm.frames) (h2 : 8 + (6 + 11) + 116 ≤ rm.locals) {p0 : Nat} (hj0 : twI p0) {γ : Type} {f : Int32 → TS → Option γ} {o : γ} (h : ob2 (t_X6_ticks σ p0) f = some o) (hc : cells ≤ rm.cells ∧ slots ≤ rm.slots) (hW : (rest.map fun v => v.category).sum ≤ 8) (hdg : decode cc pc = .ok (.invokevirtual 312, 3))
    (kk : ∀ (r : Int32) (σ1 : TS) (H1 : Heap) (locs1 : List Loc), f r σ1 = some o → gJ D clX L0 A s.heap (twG dA b σ1 G0) n H1 locs1 → W p l e R s m args below meth c H1 locs1 cells slots Q (F0 m (pc + 3) ls (.int r :: rest))) : W p l e R s m args below meth c H locs cells slots Q (F0 m pc ls (.ref (b + p0) :: .ref b :: rest)) := by
  obtain ⟨r, r2, hr, h⟩ := ob2_e h
  refine g_callV hF hG hl twG_obj (C := RX6) (T := TX6) (N := 35) rfl (w_X6_ticks hF.2.2.1 hL0 σ p0 hj0 hr) (cwV 1 hF.1.2.2.2.2 (lw_V q2206 q2208 qs74 q108 q2209) rfl rfl rfl (by decide +kernel) (g_room hF h1 h2)) rfl rfl hW hdg ⟨by rw [hF.2.2.2.2]; exact hc.1, by rw [hF.2.2.2.2]; exact hc.2⟩ (fun v G1 n1 H1 locs1 hR hG1 => ?_)
  obtain ⟨rfl, rfl, rfl⟩ := hR
  exact kk r r2 H1 locs1 h hG1
/-! until -/
def t_X6_until_L1 (p0 : Int32) : Nat → Int32 → TS → Option (Int32 × TS)
  | 0, _, _ => none
  | n + 1, y2, σ3 =>
    if 500 < y2 then (
    some (y2, σ3))
    else (
    ob1 (t_X6_withState σ3 7 2 3) fun (v4 : Int32) =>
    if (p0 &&& (v4 ^^^ (-1))) = 0 then (
    some (y2, σ3))
    else (
    ob2 (t_X6_ticks σ3 7) fun (v5 : Int32) (σ6 : TS) =>
    nm (y2 + 1) fun (x7 : Int32) =>
    t_X6_until_L1 p0 n x7 σ6))
def t_X6_until (σ : TS) (p0 : Int32) : Option (Int32 × TS) :=
ob2 (
t_X6_until_L1 p0 4096 0 σ) fun (z8 : Int32) (σ9 : TS) =>
if z8 ≤ 500 then (
some (z8, σ9))
else (
some ((-1), σ9))
set_option maxRecDepth 100000 in
theorem w_X6_until {l : Launch} {D : va_G} {dA : Nat → ClassId} {K : gKT} {L0 b sz : Nat} {G0 : GH} (hKo : gKo D clX (tyA dA) K) (hL0 : L0 ≤ b) (σ : TS) (p0 : Int32)  {out : Int32 × TS} (h : t_X6_until σ p0 = some out) : gMet l yX6_until (ws_ yX6_until cX6_until 4 (some .int)) D clX L0 K [.ref b, .int p0] (twG dA b σ G0) sz 6 141 0 0 (twRI dA b out.2 G0 sz out.1) := by
  refine gMet.of (own := RX6) hKo (by decide +kernel) (Nat.le_of_ble_eq_true rfl) rfl ?_
  intro p e R s m args below meth c A Q ls H hF hQ hin hG hl
  have hx := hF.1.1
  have hb := hF.1.2.1
  have hts := hF.1.2.2.2.2
  have hl : lv_has ls 4 [(0, .ref b), (1, .int p0)] := hl
  unfold t_X6_until at h
  refine lv_iconst (v := 0) hx hb dX6_until_0 (by decide) ?_
  refine lv_istore_n hx hb dX6_until_1 rfl hl (Nat.le_of_ble_eq_true rfl) (lv' := [(2, .int 0), (0, .ref b), (1, .int p0)]) rfl (fun ls hl => ?_)
  obtain ⟨X1, h, hJ1⟩ := ob2_u h
  have J1 : ∀ (z8 : Int32) (σ9 : TS), X1 = (z8, σ9) → ∀ (H : Heap) (locs : List Loc) (ls : Array Slot), gJ D clX L0 A s.heap (twG dA b σ9 G0) sz H locs → lv_has ls 4 [(2, .int z8)] → W p l e R s m args below meth c H locs 0 0 Q (F0 m 41 ls []) := by
    intro z8 σ9 e0 H locs ls hG hl
    have h := hJ1 z8 σ9 e0
    refine lv_iload_n hx hb dX6_until_41 rfl (lv_at hl 0 rfl) ?_
    refine lv_sipush (v := 500) hx hb dX6_until_42 (by decide) ?_
    refine gb_icmp_le hx hb dX6_until_45 (tgt := 52) (by decide) h (fun h => ?_) (fun h => ?_)
    · refine lv_iload_n hx hb dX6_until_52 rfl (lv_at hl 0 rfl) ?_
      have h := Option.some.inj h
      subst h
      exact g_iret hQ hG ⟨rfl, rfl, rfl⟩ (Nat.le_refl _) (Nat.le_refl _) dX6_until_53
    · refine lv_iconst (v := (-1)) hx hb dX6_until_48 (by decide) ?_
      refine lv_goto hx hb dX6_until_49 (tgt := 53) (by decide) ?_
      have h := Option.some.inj h
      subst h
      exact g_iret hQ hG ⟨rfl, rfl, rfl⟩ (Nat.le_refl _) (Nat.le_refl _) dX6_until_53
  have LL1 : ∀ (n : Nat) (y2 : Int32) (σ3 : TS), t_X6_until_L1 p0 n y2 σ3 = some X1 → ∀ (H : Heap) (locs : List Loc) (ls : Array Slot), gJ D clX L0 A s.heap (twG dA b σ3 G0) sz H locs → lv_has ls 4 [(0, .ref b), (1, .int p0), (2, .int y2)] → W p l e R s m args below meth c H locs 0 0 Q (F0 m 2 ls []) := by
    intro n
    induction n with
    | zero =>
      intro y2 σ3 h
      rw [t_X6_until_L1] at h
      cases h
    | succ n ihL1 =>
      intro y2 σ3 h H locs ls hG hl
      rw [t_X6_until_L1] at h
      refine lv_iload_n hx hb dX6_until_2 rfl (lv_at hl 2 rfl) ?_
      refine lv_sipush (v := 500) hx hb dX6_until_3 (by decide) ?_
      refine gb_icmp_gt hx hb dX6_until_6 (tgt := 41) (by decide) h (fun h => ?_) (fun h => ?_)
      · exact J1 _ _ (Option.some.inj h).symm _ _ _ hG (lv_sub hl [2] rfl)
      · refine lv_iload_n hx hb dX6_until_9 rfl (lv_at hl 1 rfl) ?_
        refine lv_aload_n hx hb dX6_until_10 rfl (lv_at hl 0 rfl) ?_
        refine lv_aload_n hx hb dX6_until_11 rfl (lv_at hl 0 rfl) ?_
        refine tw_getR hF hG 11 7 (by decide) q1844 rfl dX6_until_12 ?_
        refine lv_iconst (v := 2) hx hb dX6_until_15 (by decide) ?_
        refine lv_iconst (v := 3) hx hb dX6_until_16 (by decide) ?_
        refine k_X6_withState hF hL0 hG hl (Nat.le_of_ble_eq_true rfl) (Nat.le_of_ble_eq_true rfl) (by decide) h ⟨Nat.le_of_ble_eq_true rfl, Nat.le_of_ble_eq_true rfl⟩ (Nat.le_of_ble_eq_true rfl) dX6_until_17 (fun v4 H locs h hG => ?_)
        refine lv_iconst (v := (-1)) hx hb dX6_until_20 (by decide) ?_
        refine lv_ixor hx hb dX6_until_21 ?_
        refine lv_iand hx hb dX6_until_22 ?_
        refine gb_if_eq hx hb dX6_until_23 (tgt := 41) (by decide) h (fun h => ?_) (fun h => ?_)
        · exact J1 _ _ (Option.some.inj h).symm _ _ _ hG (lv_sub hl [2] rfl)
        · refine lv_aload_n hx hb dX6_until_26 rfl (lv_at hl 0 rfl) ?_
          refine lv_aload_n hx hb dX6_until_27 rfl (lv_at hl 0 rfl) ?_
          refine tw_getR hF hG 11 7 (by decide) q1844 rfl dX6_until_28 ?_
          refine k_X6_ticks hF hL0 hG hl (Nat.le_of_ble_eq_true rfl) (Nat.le_of_ble_eq_true rfl) (by decide) h ⟨Nat.le_of_ble_eq_true rfl, Nat.le_of_ble_eq_true rfl⟩ (Nat.le_of_ble_eq_true rfl) dX6_until_31 (fun v5 σ6 H locs h hG => ?_)
          refine lv_istore_n hx hb dX6_until_34 rfl hl (Nat.le_of_ble_eq_true rfl) (lv' := [(3, .int v5), (0, .ref b), (1, .int p0), (2, .int y2)]) rfl (fun ls hl => ?_)
          refine gb_iinc (k' := 1) hx hb dX6_until_35 hl (k := 3) rfl (by decide) (Nat.le_of_ble_eq_true rfl) h (fun x7 ls h hl => ?_)
          have hl : lv_has ls 4 [(2, .int x7), (3, .int v5), (0, .ref b), (1, .int p0)] := hl
          refine lv_goto hx hb dX6_until_38 (tgt := 2) (by decide) ?_
          exact ihL1 _ _ h _ _ _ hG (lv_sub hl [2, 3, 0] rfl)
  exact LL1 _ _ _ h _ _ _ hG (lv_sub hl [1, 2, 0] rfl)
theorem k_X6_until (hF : gX p m c cc nL s args RX6 D clX (tyA dA) K A R rm) (hL0 : L0 ≤ b) (hG : gJ D clX L0 A s.heap (twG dA b σ G0) n H locs) (hl : lv_has ls nL lv) (h1 : 6 + 1 ≤ rm.frames) (h2 : 8 + (4 + 11) + 141 ≤ rm.locals) {p0 : Int32} {γ : Type} {f : Int32 → TS → Option γ} {o : γ} (h : ob2 (t_X6_until σ p0) f = some o) (hc : cells ≤ rm.cells ∧ slots ≤ rm.slots) (hW : (rest.map fun v => v.category).sum ≤ 8) (hdg : decode cc pc = .ok (.invokevirtual 318, 3))
    (kk : ∀ (r : Int32) (σ1 : TS) (H1 : Heap) (locs1 : List Loc), f r σ1 = some o → gJ D clX L0 A s.heap (twG dA b σ1 G0) n H1 locs1 → W p l e R s m args below meth c H1 locs1 cells slots Q (F0 m (pc + 3) ls (.int r :: rest))) : W p l e R s m args below meth c H locs cells slots Q (F0 m pc ls (.int p0 :: .ref b :: rest)) := by
  obtain ⟨r, r2, hr, h⟩ := ob2_e h
  refine g_callV hF hG hl twG_obj (C := RX6) (T := TX6) (N := 35) rfl (w_X6_until hF.2.2.1 hL0 σ p0 hr) (cwV 1 hF.1.2.2.2.2 (lw_V q2202 q2204 qs73 q108 q2205) rfl rfl rfl (by decide +kernel) (g_room hF h1 h2)) rfl rfl hW hdg ⟨by rw [hF.2.2.2.2]; exact hc.1, by rw [hF.2.2.2.2]; exact hc.2⟩ (fun v G1 n1 H1 locs1 hR hG1 => ?_)
  obtain ⟨rfl, rfl, rfl⟩ := hR
  exact kk r r2 H1 locs1 h hG1
/-! runsIn -/
def t_X6_runsIn (σ : TS) (p0 : Int32) : Option (Int32 × TS) :=
nm (T_sf σ 0 0) fun (σ1 : TS) =>
ob1 (t_X6_isOutlet σ1 p0) fun (v2 : Int32) =>
ob2 (t_X6_may σ1 v2 1) fun (v3 : Int32) (σ4 : TS) =>
if v3 = 0 then (
some (0, σ4))
else (
ob1 (t_X6_laysThen σ4) fun (σ5 : TS) =>
ob2 (t_X6_until σ5 (1 <<< (p0 &&& 31))) fun (v6 : Int32) (σ7 : TS) =>
ob1 (
if v6 = (-1) then (
some (0 : Int32))
else (
some (1 : Int32))) fun (z8 : Int32) =>
ob2 (t_X6_may σ7 z8 2) fun (v9 : Int32) (σ10 : TS) =>
if v9 = 0 then (
some (0, σ10))
else (
some (v6, σ10)))
set_option maxRecDepth 100000 in
theorem w_X6_runsIn {l : Launch} {D : va_G} {dA : Nat → ClassId} {K : gKT} {L0 b sz : Nat} {G0 : GH} (hKo : gKo D clX (tyA dA) K) (hL0 : L0 ≤ b) (σ : TS) (p0 : Int32)  {out : Int32 × TS} (h : t_X6_runsIn σ p0 = some out) : gMet l yX6_runsIn (ws_ yX6_runsIn cX6_runsIn 3 (some .int)) D clX L0 K [.ref b, .int p0] (twG dA b σ G0) sz 7 164 0 0 (twRI dA b out.2 G0 sz out.1) := by
  refine gMet.of (own := RX6) hKo (by decide +kernel) (Nat.le_of_ble_eq_true rfl) rfl ?_
  intro p e R s m args below meth c A Q ls H hF hQ hin hG hl
  have hx := hF.1.1
  have hb := hF.1.2.1
  have hts := hF.1.2.2.2.2
  have hl : lv_has ls 3 [(0, .ref b), (1, .int p0)] := hl
  unfold t_X6_runsIn at h
  refine lv_aload_n hx hb dX6_runsIn_0 rfl (lv_at hl 0 rfl) ?_
  refine lv_iconst (v := 0) hx hb dX6_runsIn_1 (by decide) ?_
  refine tw_putI hF hL0 hG 0 (by decide) q1833 rfl h dX6_runsIn_2 (fun σ1 H locs h hG => ?_)
  refine lv_aload_n hx hb dX6_runsIn_5 rfl (lv_at hl 0 rfl) ?_
  refine lv_aload_n hx hb dX6_runsIn_6 rfl (lv_at hl 0 rfl) ?_
  refine lv_iload_n hx hb dX6_runsIn_7 rfl (lv_at hl 1 rfl) ?_
  refine k_X6_isOutlet hF hL0 hG hl (Nat.le_of_ble_eq_true rfl) (Nat.le_of_ble_eq_true rfl) h ⟨Nat.le_of_ble_eq_true rfl, Nat.le_of_ble_eq_true rfl⟩ (Nat.le_of_ble_eq_true rfl) dX6_runsIn_8 (fun v2 H locs h hG => ?_)
  refine lv_iconst (v := 1) hx hb dX6_runsIn_11 (by decide) ?_
  refine k_X6_may hF hL0 hG hl (Nat.le_of_ble_eq_true rfl) (Nat.le_of_ble_eq_true rfl) h ⟨Nat.le_of_ble_eq_true rfl, Nat.le_of_ble_eq_true rfl⟩ (Nat.le_of_ble_eq_true rfl) dX6_runsIn_12 (fun v3 σ4 H locs h hG => ?_)
  refine gb_if_ne hx hb dX6_runsIn_15 (tgt := 20) (by decide) h (fun h => ?_) (fun h => ?_)
  · refine lv_aload_n hx hb dX6_runsIn_20 rfl (lv_at hl 0 rfl) ?_
    refine k_X6_laysThen hF hL0 hG hl (Nat.le_of_ble_eq_true rfl) (Nat.le_of_ble_eq_true rfl) h ⟨Nat.le_of_ble_eq_true rfl, Nat.le_of_ble_eq_true rfl⟩ (Nat.le_of_ble_eq_true rfl) dX6_runsIn_21 (fun σ5 H locs h hG => ?_)
    refine lv_aload_n hx hb dX6_runsIn_24 rfl (lv_at hl 0 rfl) ?_
    refine lv_iconst (v := 1) hx hb dX6_runsIn_25 (by decide) ?_
    refine lv_iload_n hx hb dX6_runsIn_26 rfl (lv_at hl 1 rfl) ?_
    refine lv_ishl hx hb dX6_runsIn_27 ?_
    refine k_X6_until hF hL0 hG hl (Nat.le_of_ble_eq_true rfl) (Nat.le_of_ble_eq_true rfl) h ⟨Nat.le_of_ble_eq_true rfl, Nat.le_of_ble_eq_true rfl⟩ (Nat.le_of_ble_eq_true rfl) dX6_runsIn_28 (fun v6 σ7 H locs h hG => ?_)
    refine lv_istore_n hx hb dX6_runsIn_31 rfl hl (Nat.le_of_ble_eq_true rfl) (lv' := [(2, .int v6), (0, .ref b), (1, .int p0)]) rfl (fun ls hl => ?_)
    refine lv_aload_n hx hb dX6_runsIn_32 rfl (lv_at hl 1 rfl) ?_
    refine lv_iload_n hx hb dX6_runsIn_33 rfl (lv_at hl 0 rfl) ?_
    refine lv_iconst (v := (-1)) hx hb dX6_runsIn_34 (by decide) ?_
    obtain ⟨X1, h, hJ1⟩ := ob1_u h
    have J1 : ∀ (z8 : Int32), X1 = z8 → ∀ (H : Heap) (locs : List Loc) (ls : Array Slot), gJ D clX L0 A s.heap (twG dA b σ7 G0) sz H locs → lv_has ls 3 [(2, .int v6)] → W p l e R s m args below meth c H locs 0 0 Q (F0 m 43 ls [.int z8, .ref b]) := by
      intro z8 e0 H locs ls hG hl
      have h := hJ1 z8 e0
      refine lv_iconst (v := 2) hx hb dX6_runsIn_43 (by decide) ?_
      refine k_X6_may hF hL0 hG hl (Nat.le_of_ble_eq_true rfl) (Nat.le_of_ble_eq_true rfl) h ⟨Nat.le_of_ble_eq_true rfl, Nat.le_of_ble_eq_true rfl⟩ (Nat.le_of_ble_eq_true rfl) dX6_runsIn_44 (fun v9 σ10 H locs h hG => ?_)
      refine gb_if_eq hx hb dX6_runsIn_47 (tgt := 54) (by decide) h (fun h => ?_) (fun h => ?_)
      · refine lv_iconst (v := 0) hx hb dX6_runsIn_54 (by decide) ?_
        have h := Option.some.inj h
        subst h
        exact g_iret hQ hG ⟨rfl, rfl, rfl⟩ (Nat.le_refl _) (Nat.le_refl _) dX6_runsIn_55
      · refine lv_iload_n hx hb dX6_runsIn_50 rfl (lv_at hl 0 rfl) ?_
        refine lv_goto hx hb dX6_runsIn_51 (tgt := 55) (by decide) ?_
        have h := Option.some.inj h
        subst h
        exact g_iret hQ hG ⟨rfl, rfl, rfl⟩ (Nat.le_refl _) (Nat.le_refl _) dX6_runsIn_55
    refine gb_icmp_eq hx hb dX6_runsIn_35 (tgt := 42) (by decide) h (fun h => ?_) (fun h => ?_)
    · refine lv_iconst (v := 0) hx hb dX6_runsIn_42 (by decide) ?_
      exact J1 _ (Option.some.inj h).symm _ _ _ hG (lv_sub hl [0] rfl)
    · refine lv_iconst (v := 1) hx hb dX6_runsIn_38 (by decide) ?_
      refine lv_goto hx hb dX6_runsIn_39 (tgt := 43) (by decide) ?_
      exact J1 _ (Option.some.inj h).symm _ _ _ hG (lv_sub hl [0] rfl)
  · refine lv_iconst (v := 0) hx hb dX6_runsIn_18 (by decide) ?_
    have h := Option.some.inj h
    subst h
    exact g_iret hQ hG ⟨rfl, rfl, rfl⟩ (Nat.le_refl _) (Nat.le_refl _) dX6_runsIn_19
/-! forgets -/
def t_X6_forgets_L1 (p0 : Nat) : Nat → Int32 → Int32 → TS → Option (Int32 × TS)
  | 0, _, _, _ => none
  | n + 1, y2, y3, σ4 =>
    if 12 ≤ y3 then (
    some (y2, σ4))
    else (
    ob1 (t_X6_at y3 11) fun (v5 : Int32) =>
    ob1 (T_rd σ4 p0 v5) fun (v6 : Int32) =>
    nm (y2 + v6) fun (x7 : Int32) =>
    ob1 (t_X6_at y3 11) fun (v8 : Int32) =>
    ob1 (T_wr σ4 p0 v8 0) fun (σ9 : TS) =>
    nm (y3 + 1) fun (x10 : Int32) =>
    t_X6_forgets_L1 p0 n x7 x10 σ9)
def t_X6_forgets (σ : TS) (p0 : Nat) : Option (Int32 × TS) :=
ob2 (
t_X6_forgets_L1 p0 4096 0 0 σ) fun (z11 : Int32) (σ12 : TS) =>
ob1 (T_wr σ12 p0 13 0) fun (σ13 : TS) =>
some (z11, σ13)
set_option maxRecDepth 100000 in
theorem w_X6_forgets {l : Launch} {D : va_G} {dA : Nat → ClassId} {K : gKT} {L0 b sz : Nat} {G0 : GH} (hKo : gKo D clX (tyA dA) K) (hL0 : L0 ≤ b) (σ : TS) (p0 : Nat) (hj0 : twI p0) {out : Int32 × TS} (h : t_X6_forgets σ p0 = some out) : gMet l yX6_forgets (ws_ yX6_forgets cX6_forgets 3 (some .int)) D clX L0 K [.ref (b + p0)] (twG dA b σ G0) sz 1 21 0 0 (twRI dA b out.2 G0 sz out.1) := by
  refine gMet.of (own := RX6) hKo (by decide +kernel) (Nat.le_of_ble_eq_true rfl) rfl ?_
  intro p e R s m args below meth c A Q ls H hF hQ hin hG hl
  have hx := hF.1.1
  have hb := hF.1.2.1
  have hts := hF.1.2.2.2.2
  have hl : lv_has ls 3 [(0, .ref (b + p0))] := hl
  unfold t_X6_forgets at h
  refine lv_iconst (v := 0) hx hb dX6_forgets_0 (by decide) ?_
  refine lv_istore_n hx hb dX6_forgets_1 rfl hl (Nat.le_of_ble_eq_true rfl) (lv' := [(1, .int 0), (0, .ref (b + p0))]) rfl (fun ls hl => ?_)
  refine lv_iconst (v := 0) hx hb dX6_forgets_2 (by decide) ?_
  refine lv_istore_n hx hb dX6_forgets_3 rfl hl (Nat.le_of_ble_eq_true rfl) (lv' := [(2, .int 0), (1, .int 0), (0, .ref (b + p0))]) rfl (fun ls hl => ?_)
  obtain ⟨X1, h, hJ1⟩ := ob2_u h
  have J1 : ∀ (z11 : Int32) (σ12 : TS), X1 = (z11, σ12) → ∀ (H : Heap) (locs : List Loc) (ls : Array Slot), gJ D clX L0 A s.heap (twG dA b σ12 G0) sz H locs → lv_has ls 3 [(0, .ref (b + p0)), (1, .int z11)] → W p l e R s m args below meth c H locs 0 0 Q (F0 m 36 ls []) := by
    intro z11 σ12 e0 H locs ls hG hl
    have h := hJ1 z11 σ12 e0
    refine lv_aload_n hx hb dX6_forgets_36 rfl (lv_at hl 0 rfl) ?_
    refine lv_bipush (v := 13) hx hb dX6_forgets_37 (by decide) ?_
    refine lv_iconst (v := 0) hx hb dX6_forgets_39 (by decide) ?_
    refine tw_wr hF hL0 hG (j := p0) hj0 h dX6_forgets_40 (fun σ13 H locs h hG => ?_)
    refine lv_iload_n hx hb dX6_forgets_41 rfl (lv_at hl 1 rfl) ?_
    have h := Option.some.inj h
    subst h
    exact g_iret hQ hG ⟨rfl, rfl, rfl⟩ (Nat.le_refl _) (Nat.le_refl _) dX6_forgets_42
  have LL1 : ∀ (n : Nat) (y2 : Int32) (y3 : Int32) (σ4 : TS), t_X6_forgets_L1 p0 n y2 y3 σ4 = some X1 → ∀ (H : Heap) (locs : List Loc) (ls : Array Slot), gJ D clX L0 A s.heap (twG dA b σ4 G0) sz H locs → lv_has ls 3 [(0, .ref (b + p0)), (1, .int y2), (2, .int y3)] → W p l e R s m args below meth c H locs 0 0 Q (F0 m 4 ls []) := by
    intro n
    induction n with
    | zero =>
      intro y2 y3 σ4 h
      rw [t_X6_forgets_L1] at h
      cases h
    | succ n ihL1 =>
      intro y2 y3 σ4 h H locs ls hG hl
      rw [t_X6_forgets_L1] at h
      refine lv_iload_n hx hb dX6_forgets_4 rfl (lv_at hl 2 rfl) ?_
      refine lv_bipush (v := 12) hx hb dX6_forgets_5 (by decide) ?_
      refine gb_icmp_ge hx hb dX6_forgets_7 (tgt := 36) (by decide) h (fun h => ?_) (fun h => ?_)
      · exact J1 _ _ (Option.some.inj h).symm _ _ _ hG (lv_sub hl [0, 1] rfl)
      · refine lv_iload_n hx hb dX6_forgets_10 rfl (lv_at hl 1 rfl) ?_
        refine lv_aload_n hx hb dX6_forgets_11 rfl (lv_at hl 0 rfl) ?_
        refine lv_iload_n hx hb dX6_forgets_12 rfl (lv_at hl 2 rfl) ?_
        refine lv_bipush (v := 11) hx hb dX6_forgets_13 (by decide) ?_
        refine k_X6_at hF hL0 hG hl (Nat.le_of_ble_eq_true rfl) (Nat.le_of_ble_eq_true rfl) h ⟨Nat.le_of_ble_eq_true rfl, Nat.le_of_ble_eq_true rfl⟩ (Nat.le_of_ble_eq_true rfl) dX6_forgets_15 (fun v5 H locs h hG => ?_)
        refine tw_rd hF hG (j := p0) hj0 h dX6_forgets_18 (fun v6 h => ?_)
        refine lv_iadd hx hb dX6_forgets_19 ?_
        refine gb_nm h (fun x7 h => ?_)
        refine lv_istore_n hx hb dX6_forgets_20 rfl hl (Nat.le_of_ble_eq_true rfl) (lv' := [(1, .int x7), (0, .ref (b + p0)), (2, .int y3)]) rfl (fun ls hl => ?_)
        refine lv_aload_n hx hb dX6_forgets_21 rfl (lv_at hl 1 rfl) ?_
        refine lv_iload_n hx hb dX6_forgets_22 rfl (lv_at hl 2 rfl) ?_
        refine lv_bipush (v := 11) hx hb dX6_forgets_23 (by decide) ?_
        refine k_X6_at hF hL0 hG hl (Nat.le_of_ble_eq_true rfl) (Nat.le_of_ble_eq_true rfl) h ⟨Nat.le_of_ble_eq_true rfl, Nat.le_of_ble_eq_true rfl⟩ (Nat.le_of_ble_eq_true rfl) dX6_forgets_25 (fun v8 H locs h hG => ?_)
        refine lv_iconst (v := 0) hx hb dX6_forgets_28 (by decide) ?_
        refine tw_wr hF hL0 hG (j := p0) hj0 h dX6_forgets_29 (fun σ9 H locs h hG => ?_)
        refine gb_iinc (k' := 1) hx hb dX6_forgets_30 hl (k := 2) rfl (by decide) (Nat.le_of_ble_eq_true rfl) h (fun x10 ls h hl => ?_)
        have hl : lv_has ls 3 [(2, .int x10), (1, .int x7), (0, .ref (b + p0))] := hl
        refine lv_goto hx hb dX6_forgets_33 (tgt := 4) (by decide) ?_
        exact ihL1 _ _ _ h _ _ _ hG (lv_sub hl [2, 1, 0] rfl)
  exact LL1 _ _ _ _ h _ _ _ hG (lv_sub hl [2, 1, 0] rfl)
theorem k_X6_forgets (hF : gX p m c cc nL s args RX6 D clX (tyA dA) K A R rm) (hL0 : L0 ≤ b) (hG : gJ D clX L0 A s.heap (twG dA b σ G0) n H locs) (hl : lv_has ls nL lv) (h1 : 1 + 1 ≤ rm.frames) (h2 : 8 + (3 + 11) + 21 ≤ rm.locals) {p0 : Nat} (hj0 : twI p0) {γ : Type} {f : Int32 → TS → Option γ} {o : γ} (h : ob2 (t_X6_forgets σ p0) f = some o) (hc : cells ≤ rm.cells ∧ slots ≤ rm.slots) (hW : (rest.map fun v => v.category).sum ≤ 8) (hdg : decode cc pc = .ok (.invokestatic 321, 3))
    (kk : ∀ (r : Int32) (σ1 : TS) (H1 : Heap) (locs1 : List Loc), f r σ1 = some o → gJ D clX L0 A s.heap (twG dA b σ1 G0) n H1 locs1 → W p l e R s m args below meth c H1 locs1 cells slots Q (F0 m (pc + 3) ls (.int r :: rest))) : W p l e R s m args below meth c H locs cells slots Q (F0 m pc ls (.ref (b + p0) :: rest)) := by
  obtain ⟨r, r2, hr, h⟩ := ob2_e h
  refine g_callS hF hG hl (w_X6_forgets hF.2.2.1 hL0 σ p0 hj0 hr) (va_cwS 1 hF.1.2.2.2.2 (lw_S q2234 q2235 q108 q2236) rfl rfl rfl (by decide +kernel) (g_room hF h1 h2)) rfl rfl hW hdg ⟨by rw [hF.2.2.2.2]; exact hc.1, by rw [hF.2.2.2.2]; exact hc.2⟩ (fun v G1 n1 H1 locs1 hR hG1 => ?_)
  obtain ⟨rfl, rfl, rfl⟩ := hR
  exact kk r r2 H1 locs1 h hG1
/-! allIn -/
def t_X6_allIn (σ : TS) (p0 : Int32) : Option (Int32 × TS) :=
nm (T_sf σ 0 0) fun (σ1 : TS) =>
ob1 (t_X6_isIn (p0.toInt64) 0 3) fun (v2 : Int32) =>
ob2 (t_X6_may σ1 v2 1) fun (v3 : Int32) (σ4 : TS) =>
if v3 = 0 then (
some (0, σ4))
else (
ob1 (t_X6_laysThen σ4) fun (σ5 : TS) =>
ob1 (
if p0 = 1 then (
ob1 (T_wr σ5 7 14 1) fun (σ6 : TS) =>
some σ6)
else (
some σ5)) fun (σ7 : TS) =>
ob1 (
if p0 = 2 then (
ob1 (T_rd σ7 7 9) fun (v8 : Int32) =>
ob1 (T_wr σ7 7 9 (1 - v8)) fun (σ9 : TS) =>
some σ9)
else (
some σ7)) fun (σ10 : TS) =>
ob2 (
if p0 = 3 then (
ob2 (t_X6_forgets σ10 7) fun (v11 : Int32) (σ12 : TS) =>
some (v11, σ12))
else (
some ((0 : Int32), σ10))) fun (z13 : Int32) (σ14 : TS) =>
ob1 (t_X6_rightsOf σ14 7) fun (v15 : Int32) =>
ob2 (t_X6_until σ14 v15) fun (v16 : Int32) (σ17 : TS) =>
ob1 (
if v16 = (-1) then (
some (0 : Int32))
else (
some (1 : Int32))) fun (z18 : Int32) =>
ob2 (t_X6_may σ17 z18 2) fun (v19 : Int32) (σ20 : TS) =>
if v19 = 0 then (
some (0, σ20))
else (
some (v16, σ20)))
set_option maxRecDepth 100000 in
theorem w_X6_allIn {l : Launch} {D : va_G} {dA : Nat → ClassId} {K : gKT} {L0 b sz : Nat} {G0 : GH} (hKo : gKo D clX (tyA dA) K) (hL0 : L0 ≤ b) (σ : TS) (p0 : Int32)  {out : Int32 × TS} (h : t_X6_allIn σ p0 = some out) : gMet l yX6_allIn (ws_ yX6_allIn cX6_allIn 4 (some .int)) D clX L0 K [.ref b, .int p0] (twG dA b σ G0) sz 7 164 0 0 (twRI dA b out.2 G0 sz out.1) := by
  refine gMet.of (own := RX6) hKo (by decide +kernel) (Nat.le_of_ble_eq_true rfl) rfl ?_
  intro p e R s m args below meth c A Q ls H hF hQ hin hG hl
  have hx := hF.1.1
  have hb := hF.1.2.1
  have hts := hF.1.2.2.2.2
  have hl : lv_has ls 4 [(0, .ref b), (1, .int p0)] := hl
  unfold t_X6_allIn at h
  refine lv_aload_n hx hb dX6_allIn_0 rfl (lv_at hl 0 rfl) ?_
  refine lv_iconst (v := 0) hx hb dX6_allIn_1 (by decide) ?_
  refine tw_putI hF hL0 hG 0 (by decide) q1833 rfl h dX6_allIn_2 (fun σ1 H locs h hG => ?_)
  refine lv_aload_n hx hb dX6_allIn_5 rfl (lv_at hl 0 rfl) ?_
  refine lv_iload_n hx hb dX6_allIn_6 rfl (lv_at hl 1 rfl) ?_
  refine lv_i2l hx hb dX6_allIn_7 rfl ?_
  refine lv_lconst (v := 0) hx hb dX6_allIn_8 (by decide) ?_
  refine lv_ldc2 (v := 3) hx hb hF.1.2.2.2.1 (hts _ q2120) dX6_allIn_9 ?_
  refine k_X6_isIn hF hL0 hG hl (Nat.le_of_ble_eq_true rfl) (Nat.le_of_ble_eq_true rfl) h ⟨Nat.le_of_ble_eq_true rfl, Nat.le_of_ble_eq_true rfl⟩ (Nat.le_of_ble_eq_true rfl) dX6_allIn_12 (fun v2 H locs h hG => ?_)
  refine lv_iconst (v := 1) hx hb dX6_allIn_15 (by decide) ?_
  refine k_X6_may hF hL0 hG hl (Nat.le_of_ble_eq_true rfl) (Nat.le_of_ble_eq_true rfl) h ⟨Nat.le_of_ble_eq_true rfl, Nat.le_of_ble_eq_true rfl⟩ (Nat.le_of_ble_eq_true rfl) dX6_allIn_16 (fun v3 σ4 H locs h hG => ?_)
  refine gb_if_ne hx hb dX6_allIn_19 (tgt := 24) (by decide) h (fun h => ?_) (fun h => ?_)
  · refine lv_aload_n hx hb dX6_allIn_24 rfl (lv_at hl 0 rfl) ?_
    refine k_X6_laysThen hF hL0 hG hl (Nat.le_of_ble_eq_true rfl) (Nat.le_of_ble_eq_true rfl) h ⟨Nat.le_of_ble_eq_true rfl, Nat.le_of_ble_eq_true rfl⟩ (Nat.le_of_ble_eq_true rfl) dX6_allIn_25 (fun σ5 H locs h hG => ?_)
    refine lv_iload_n hx hb dX6_allIn_28 rfl (lv_at hl 1 rfl) ?_
    refine lv_iconst (v := 1) hx hb dX6_allIn_29 (by decide) ?_
    obtain ⟨X1, h, hJ1⟩ := ob1_u h
    have J1 : ∀ (σ7 : TS), X1 = σ7 → ∀ (H : Heap) (locs : List Loc) (ls : Array Slot), gJ D clX L0 A s.heap (twG dA b σ7 G0) sz H locs → lv_has ls 4 [(0, .ref b), (1, .int p0)] → W p l e R s m args below meth c H locs 0 0 Q (F0 m 41 ls []) := by
      intro σ7 e0 H locs ls hG hl
      have h := hJ1 σ7 e0
      refine lv_iload_n hx hb dX6_allIn_41 rfl (lv_at hl 1 rfl) ?_
      refine lv_iconst (v := 2) hx hb dX6_allIn_42 (by decide) ?_
      obtain ⟨X2, h, hJ2⟩ := ob1_u h
      have J2 : ∀ (σ10 : TS), X2 = σ10 → ∀ (H : Heap) (locs : List Loc) (ls : Array Slot), gJ D clX L0 A s.heap (twG dA b σ10 G0) sz H locs → lv_has ls 4 [(0, .ref b), (1, .int p0)] → W p l e R s m args below meth c H locs 0 0 Q (F0 m 62 ls []) := by
        intro σ10 e0 H locs ls hG hl
        have h := hJ2 σ10 e0
        refine lv_iload_n hx hb dX6_allIn_62 rfl (lv_at hl 1 rfl) ?_
        refine lv_iconst (v := 3) hx hb dX6_allIn_63 (by decide) ?_
        obtain ⟨X3, h, hJ3⟩ := ob2_u h
        have J3 : ∀ (z13 : Int32) (σ14 : TS), X3 = (z13, σ14) → ∀ (H : Heap) (locs : List Loc) (ls : Array Slot), gJ D clX L0 A s.heap (twG dA b σ14 G0) sz H locs → lv_has ls 4 [(0, .ref b)] → W p l e R s m args below meth c H locs 0 0 Q (F0 m 78 ls [.int z13]) := by
          intro z13 σ14 e0 H locs ls hG hl
          have h := hJ3 z13 σ14 e0
          refine lv_istore_n hx hb dX6_allIn_78 rfl hl (Nat.le_of_ble_eq_true rfl) (lv' := [(2, .int z13), (0, .ref b)]) rfl (fun ls hl => ?_)
          refine lv_aload_n hx hb dX6_allIn_79 rfl (lv_at hl 1 rfl) ?_
          refine lv_aload_n hx hb dX6_allIn_80 rfl (lv_at hl 1 rfl) ?_
          refine lv_aload_n hx hb dX6_allIn_81 rfl (lv_at hl 1 rfl) ?_
          refine tw_getR hF hG 11 7 (by decide) q1844 rfl dX6_allIn_82 ?_
          refine k_X6_rightsOf hF hL0 hG hl (Nat.le_of_ble_eq_true rfl) (Nat.le_of_ble_eq_true rfl) (by decide) h ⟨Nat.le_of_ble_eq_true rfl, Nat.le_of_ble_eq_true rfl⟩ (Nat.le_of_ble_eq_true rfl) dX6_allIn_85 (fun v15 H locs h hG => ?_)
          refine k_X6_until hF hL0 hG hl (Nat.le_of_ble_eq_true rfl) (Nat.le_of_ble_eq_true rfl) h ⟨Nat.le_of_ble_eq_true rfl, Nat.le_of_ble_eq_true rfl⟩ (Nat.le_of_ble_eq_true rfl) dX6_allIn_88 (fun v16 σ17 H locs h hG => ?_)
          refine lv_istore_n hx hb dX6_allIn_91 rfl hl (Nat.le_of_ble_eq_true rfl) (lv' := [(3, .int v16), (2, .int z13), (0, .ref b)]) rfl (fun ls hl => ?_)
          refine lv_aload_n hx hb dX6_allIn_92 rfl (lv_at hl 2 rfl) ?_
          refine lv_iload_n hx hb dX6_allIn_93 rfl (lv_at hl 0 rfl) ?_
          refine lv_iconst (v := (-1)) hx hb dX6_allIn_94 (by decide) ?_
          obtain ⟨X4, h, hJ4⟩ := ob1_u h
          have J4 : ∀ (z18 : Int32), X4 = z18 → ∀ (H : Heap) (locs : List Loc) (ls : Array Slot), gJ D clX L0 A s.heap (twG dA b σ17 G0) sz H locs → lv_has ls 4 [(3, .int v16)] → W p l e R s m args below meth c H locs 0 0 Q (F0 m 103 ls [.int z18, .ref b]) := by
            intro z18 e0 H locs ls hG hl
            have h := hJ4 z18 e0
            refine lv_iconst (v := 2) hx hb dX6_allIn_103 (by decide) ?_
            refine k_X6_may hF hL0 hG hl (Nat.le_of_ble_eq_true rfl) (Nat.le_of_ble_eq_true rfl) h ⟨Nat.le_of_ble_eq_true rfl, Nat.le_of_ble_eq_true rfl⟩ (Nat.le_of_ble_eq_true rfl) dX6_allIn_104 (fun v19 σ20 H locs h hG => ?_)
            refine gb_if_eq hx hb dX6_allIn_107 (tgt := 114) (by decide) h (fun h => ?_) (fun h => ?_)
            · refine lv_iconst (v := 0) hx hb dX6_allIn_114 (by decide) ?_
              have h := Option.some.inj h
              subst h
              exact g_iret hQ hG ⟨rfl, rfl, rfl⟩ (Nat.le_refl _) (Nat.le_refl _) dX6_allIn_115
            · refine lv_iload_n hx hb dX6_allIn_110 rfl (lv_at hl 0 rfl) ?_
              refine lv_goto hx hb dX6_allIn_111 (tgt := 115) (by decide) ?_
              have h := Option.some.inj h
              subst h
              exact g_iret hQ hG ⟨rfl, rfl, rfl⟩ (Nat.le_refl _) (Nat.le_refl _) dX6_allIn_115
          refine gb_icmp_eq hx hb dX6_allIn_95 (tgt := 102) (by decide) h (fun h => ?_) (fun h => ?_)
          · refine lv_iconst (v := 0) hx hb dX6_allIn_102 (by decide) ?_
            exact J4 _ (Option.some.inj h).symm _ _ _ hG (lv_sub hl [0] rfl)
          · refine lv_iconst (v := 1) hx hb dX6_allIn_98 (by decide) ?_
            refine lv_goto hx hb dX6_allIn_99 (tgt := 103) (by decide) ?_
            exact J4 _ (Option.some.inj h).symm _ _ _ hG (lv_sub hl [0] rfl)
        refine gb_icmp_ne hx hb dX6_allIn_64 (tgt := 77) (by decide) h (fun h => ?_) (fun h => ?_)
        · refine lv_iconst (v := 0) hx hb dX6_allIn_77 (by decide) ?_
          exact J3 _ _ (Option.some.inj h).symm _ _ _ hG (lv_sub hl [0] rfl)
        · refine lv_aload_n hx hb dX6_allIn_67 rfl (lv_at hl 0 rfl) ?_
          refine tw_getR hF hG 11 7 (by decide) q1844 rfl dX6_allIn_68 ?_
          refine k_X6_forgets hF hL0 hG hl (Nat.le_of_ble_eq_true rfl) (Nat.le_of_ble_eq_true rfl) (by decide) h ⟨Nat.le_of_ble_eq_true rfl, Nat.le_of_ble_eq_true rfl⟩ (Nat.le_of_ble_eq_true rfl) dX6_allIn_71 (fun v11 σ12 H locs h hG => ?_)
          refine lv_goto hx hb dX6_allIn_74 (tgt := 78) (by decide) ?_
          exact J3 _ _ (Option.some.inj h).symm _ _ _ hG (lv_sub hl [0] rfl)
      refine gb_icmp_ne hx hb dX6_allIn_43 (tgt := 62) (by decide) h (fun h => ?_) (fun h => ?_)
      · exact J2 _ (Option.some.inj h).symm _ _ _ hG hl
      · refine lv_aload_n hx hb dX6_allIn_46 rfl (lv_at hl 0 rfl) ?_
        refine tw_getR hF hG 11 7 (by decide) q1844 rfl dX6_allIn_47 ?_
        refine lv_bipush (v := 9) hx hb dX6_allIn_50 (by decide) ?_
        refine lv_iconst (v := 1) hx hb dX6_allIn_52 (by decide) ?_
        refine lv_aload_n hx hb dX6_allIn_53 rfl (lv_at hl 0 rfl) ?_
        refine tw_getR hF hG 11 7 (by decide) q1844 rfl dX6_allIn_54 ?_
        refine lv_bipush (v := 9) hx hb dX6_allIn_57 (by decide) ?_
        refine tw_rd hF hG (j := 7) (by decide) h dX6_allIn_59 (fun v8 h => ?_)
        refine lv_isub hx hb dX6_allIn_60 ?_
        refine tw_wr hF hL0 hG (j := 7) (by decide) h dX6_allIn_61 (fun σ9 H locs h hG => ?_)
        exact J2 _ (Option.some.inj h).symm _ _ _ hG hl
    refine gb_icmp_ne hx hb dX6_allIn_30 (tgt := 41) (by decide) h (fun h => ?_) (fun h => ?_)
    · exact J1 _ (Option.some.inj h).symm _ _ _ hG hl
    · refine lv_aload_n hx hb dX6_allIn_33 rfl (lv_at hl 0 rfl) ?_
      refine tw_getR hF hG 11 7 (by decide) q1844 rfl dX6_allIn_34 ?_
      refine lv_bipush (v := 14) hx hb dX6_allIn_37 (by decide) ?_
      refine lv_iconst (v := 1) hx hb dX6_allIn_39 (by decide) ?_
      refine tw_wr hF hL0 hG (j := 7) (by decide) h dX6_allIn_40 (fun σ6 H locs h hG => ?_)
      exact J1 _ (Option.some.inj h).symm _ _ _ hG hl
  · refine lv_iconst (v := 0) hx hb dX6_allIn_22 (by decide) ?_
    have h := Option.some.inj h
    subst h
    exact g_iret hQ hG ⟨rfl, rfl, rfl⟩ (Nat.le_refl _) (Nat.le_refl _) dX6_allIn_23
/-! areTicks -/
def t_X6_areTicks (p0 : Int32) : Option (Int32) :=
ob1 (t_X6_isIn (p0.toInt64) 1 500) fun (v1 : Int32) =>
ob1 (retZ v1) fun (r2 : Int32) =>
some r2
set_option maxRecDepth 100000 in
theorem w_X6_areTicks {l : Launch} {D : va_G} {dA : Nat → ClassId} {K : gKT} {L0 b sz : Nat} {G0 : GH} (hKo : gKo D clX (tyA dA) K) (hL0 : L0 ≤ b) (σ : TS) (p0 : Int32)  {out : Int32} (h : t_X6_areTicks p0 = some out) : gMet l yX6_areTicks (ws_ yX6_areTicks cX6_areTicks 1 (some .boolean)) D clX L0 K [.int p0] (twG dA b σ G0) sz 1 25 0 0 (twRI dA b σ G0 sz out) := by
  refine gMet.of (own := RX6) hKo (by decide +kernel) (Nat.le_of_ble_eq_true rfl) rfl ?_
  intro p e R s m args below meth c A Q ls H hF hQ hin hG hl
  have hx := hF.1.1
  have hb := hF.1.2.1
  have hts := hF.1.2.2.2.2
  have hl : lv_has ls 1 [(0, .int p0)] := hl
  unfold t_X6_areTicks at h
  refine lv_iload_n hx hb dX6_areTicks_0 rfl (lv_at hl 0 rfl) ?_
  refine lv_i2l hx hb dX6_areTicks_1 rfl ?_
  refine lv_lconst (v := 1) hx hb dX6_areTicks_2 (by decide) ?_
  refine lv_ldc2 (v := 500) hx hb hF.1.2.2.2.1 (hts _ q2244) dX6_areTicks_3 ?_
  refine k_X6_isIn hF hL0 hG hl (Nat.le_of_ble_eq_true rfl) (Nat.le_of_ble_eq_true rfl) h ⟨Nat.le_of_ble_eq_true rfl, Nat.le_of_ble_eq_true rfl⟩ (Nat.le_of_ble_eq_true rfl) dX6_areTicks_6 (fun v1 H locs h hG => ?_)
  obtain ⟨r2, hz, h⟩ := ob1_e h
  obtain ⟨ez, hz⟩ := retZ_e hz
  have h := Option.some.inj h
  subst h
  rw [← ez] at hQ
  exact g_zret hQ hG hz ⟨rfl, rfl, rfl⟩ (Nat.le_refl _) (Nat.le_refl _) dX6_areTicks_9
theorem k_X6_areTicks (hF : gX p m c cc nL s args RX6 D clX (tyA dA) K A R rm) (hL0 : L0 ≤ b) (hG : gJ D clX L0 A s.heap (twG dA b σ G0) n H locs) (hl : lv_has ls nL lv) (h1 : 1 + 1 ≤ rm.frames) (h2 : 8 + (1 + 11) + 25 ≤ rm.locals) {p0 : Int32} {γ : Type} {f : Int32 → Option γ} {o : γ} (h : ob1 (t_X6_areTicks p0) f = some o) (hc : cells ≤ rm.cells ∧ slots ≤ rm.slots) (hW : (rest.map fun v => v.category).sum ≤ 8) (hdg : decode cc pc = .ok (.invokestatic 326, 3))
    (kk : ∀ (r : Int32) (H1 : Heap) (locs1 : List Loc), f r = some o → gJ D clX L0 A s.heap (twG dA b σ G0) n H1 locs1 → W p l e R s m args below meth c H1 locs1 cells slots Q (F0 m (pc + 3) ls (.int r :: rest))) : W p l e R s m args below meth c H locs cells slots Q (F0 m pc ls (.int p0 :: rest)) := by
  obtain ⟨r, hr, h⟩ := ob1_e h
  refine g_callS hF hG hl (w_X6_areTicks hF.2.2.1 hL0 σ p0 hr) (va_cwS 1 hF.1.2.2.2.2 (lw_S q2241 q2242 q108 q2243) rfl rfl rfl (by decide +kernel) (g_room hF h1 h2)) rfl rfl hW hdg ⟨by rw [hF.2.2.2.2]; exact hc.1, by rw [hF.2.2.2.2]; exact hc.2⟩ (fun v G1 n1 H1 locs1 hR hG1 => ?_)
  obtain ⟨rfl, rfl, rfl⟩ := hR
  exact kk r H1 locs1 h hG1
/-! peakIn -/
def t_X6_peakIn_L9 (p0 : Int32) : Nat → Int32 → Int32 → TS → Option (Int32 × TS)
  | 0, _, _, _ => none
  | n + 1, y10, y11, σ12 =>
    if p0 ≤ y11 then (
    some (y10, σ12))
    else (
    ob2 (t_X6_ticks σ12 7) fun (v13 : Int32) (σ14 : TS) =>
    ob1 (
    if v13 ≤ y10 then (
    some y10)
    else (
    some v13)) fun (z15 : Int32) =>
    nm (y11 + 1) fun (x16 : Int32) =>
    t_X6_peakIn_L9 p0 n z15 x16 σ14)
def t_X6_peakIn (σ : TS) (p0 : Int32) (p1 : Int32) : Option (Int32 × TS) :=
nm (T_sf σ 0 0) fun (σ1 : TS) =>
ob1 (t_X6_areTicks p0) fun (v2 : Int32) =>
ob1 (
if v2 = 0 then (
some (0 : Int32))
else (
ob1 (t_X6_isIn (p1.toInt64) 1 9999) fun (v3 : Int32) =>
if v3 = 0 then (
some (0 : Int32))
else (
some (1 : Int32)))) fun (z4 : Int32) =>
ob2 (t_X6_may σ1 z4 1) fun (v5 : Int32) (σ6 : TS) =>
if v5 = 0 then (
some (0, σ6))
else (
ob1 (t_X6_laysThen σ6) fun (σ7 : TS) =>
ob1 (T_wr σ7 7 6 p1) fun (σ8 : TS) =>
ob2 (
t_X6_peakIn_L9 p0 4096 0 0 σ8) fun (z17 : Int32) (σ18 : TS) =>
some (z17, σ18))
set_option maxRecDepth 100000 in
theorem w_X6_peakIn {l : Launch} {D : va_G} {dA : Nat → ClassId} {K : gKT} {L0 b sz : Nat} {G0 : GH} (hKo : gKo D clX (tyA dA) K) (hL0 : L0 ≤ b) (σ : TS) (p0 : Int32) (p1 : Int32)  {out : Int32 × TS} (h : t_X6_peakIn σ p0 p1 = some out) : gMet l yX6_peakIn (ws_ yX6_peakIn cX6_peakIn 6 (some .int)) D clX L0 K [.ref b, .int p0, .int p1] (twG dA b σ G0) sz 6 141 0 0 (twRI dA b out.2 G0 sz out.1) := by
  refine gMet.of (own := RX6) hKo (by decide +kernel) (Nat.le_of_ble_eq_true rfl) rfl ?_
  intro p e R s m args below meth c A Q ls H hF hQ hin hG hl
  have hx := hF.1.1
  have hb := hF.1.2.1
  have hts := hF.1.2.2.2.2
  have hl : lv_has ls 6 [(0, .ref b), (1, .int p0), (2, .int p1)] := hl
  unfold t_X6_peakIn at h
  refine lv_aload_n hx hb dX6_peakIn_0 rfl (lv_at hl 0 rfl) ?_
  refine lv_iconst (v := 0) hx hb dX6_peakIn_1 (by decide) ?_
  refine tw_putI hF hL0 hG 0 (by decide) q1833 rfl h dX6_peakIn_2 (fun σ1 H locs h hG => ?_)
  refine lv_aload_n hx hb dX6_peakIn_5 rfl (lv_at hl 0 rfl) ?_
  refine lv_iload_n hx hb dX6_peakIn_6 rfl (lv_at hl 1 rfl) ?_
  refine k_X6_areTicks hF hL0 hG hl (Nat.le_of_ble_eq_true rfl) (Nat.le_of_ble_eq_true rfl) h ⟨Nat.le_of_ble_eq_true rfl, Nat.le_of_ble_eq_true rfl⟩ (Nat.le_of_ble_eq_true rfl) dX6_peakIn_7 (fun v2 H locs h hG => ?_)
  obtain ⟨X1, h, hJ1⟩ := ob1_u h
  have J1 : ∀ (z4 : Int32), X1 = z4 → ∀ (H : Heap) (locs : List Loc) (ls : Array Slot), gJ D clX L0 A s.heap (twG dA b σ1 G0) sz H locs → lv_has ls 6 [(0, .ref b), (1, .int p0), (2, .int p1)] → W p l e R s m args below meth c H locs 0 0 Q (F0 m 30 ls [.int z4, .ref b]) := by
    intro z4 e0 H locs ls hG hl
    have h := hJ1 z4 e0
    refine lv_iconst (v := 1) hx hb dX6_peakIn_30 (by decide) ?_
    refine k_X6_may hF hL0 hG hl (Nat.le_of_ble_eq_true rfl) (Nat.le_of_ble_eq_true rfl) h ⟨Nat.le_of_ble_eq_true rfl, Nat.le_of_ble_eq_true rfl⟩ (Nat.le_of_ble_eq_true rfl) dX6_peakIn_31 (fun v5 σ6 H locs h hG => ?_)
    refine gb_if_ne hx hb dX6_peakIn_34 (tgt := 39) (by decide) h (fun h => ?_) (fun h => ?_)
    · refine lv_aload_n hx hb dX6_peakIn_39 rfl (lv_at hl 0 rfl) ?_
      refine k_X6_laysThen hF hL0 hG hl (Nat.le_of_ble_eq_true rfl) (Nat.le_of_ble_eq_true rfl) h ⟨Nat.le_of_ble_eq_true rfl, Nat.le_of_ble_eq_true rfl⟩ (Nat.le_of_ble_eq_true rfl) dX6_peakIn_40 (fun σ7 H locs h hG => ?_)
      refine lv_aload_n hx hb dX6_peakIn_43 rfl (lv_at hl 0 rfl) ?_
      refine tw_getR hF hG 11 7 (by decide) q1844 rfl dX6_peakIn_44 ?_
      refine lv_bipush (v := 6) hx hb dX6_peakIn_47 (by decide) ?_
      refine lv_iload_n hx hb dX6_peakIn_49 rfl (lv_at hl 2 rfl) ?_
      refine tw_wr hF hL0 hG (j := 7) (by decide) h dX6_peakIn_50 (fun σ8 H locs h hG => ?_)
      refine lv_iconst (v := 0) hx hb dX6_peakIn_51 (by decide) ?_
      refine lv_istore_n hx hb dX6_peakIn_52 rfl hl (Nat.le_of_ble_eq_true rfl) (lv' := [(3, .int 0), (0, .ref b), (1, .int p0), (2, .int p1)]) rfl (fun ls hl => ?_)
      refine lv_iconst (v := 0) hx hb dX6_peakIn_53 (by decide) ?_
      refine lv_istore hx hb dX6_peakIn_54 hl (Nat.le_of_ble_eq_true rfl) (lv' := [(4, .int 0), (3, .int 0), (0, .ref b), (1, .int p0), (2, .int p1)]) rfl (fun ls hl => ?_)
      obtain ⟨X2, h, hJ2⟩ := ob2_u h
      have J2 : ∀ (z17 : Int32) (σ18 : TS), X2 = (z17, σ18) → ∀ (H : Heap) (locs : List Loc) (ls : Array Slot), gJ D clX L0 A s.heap (twG dA b σ18 G0) sz H locs → lv_has ls 6 [(3, .int z17)] → W p l e R s m args below meth c H locs 0 0 Q (F0 m 91 ls []) := by
        intro z17 σ18 e0 H locs ls hG hl
        have h := hJ2 z17 σ18 e0
        refine lv_iload_n hx hb dX6_peakIn_91 rfl (lv_at hl 0 rfl) ?_
        have h := Option.some.inj h
        subst h
        exact g_iret hQ hG ⟨rfl, rfl, rfl⟩ (Nat.le_refl _) (Nat.le_refl _) dX6_peakIn_92
      have LL9 : ∀ (n : Nat) (y10 : Int32) (y11 : Int32) (σ12 : TS), t_X6_peakIn_L9 p0 n y10 y11 σ12 = some X2 → ∀ (H : Heap) (locs : List Loc) (ls : Array Slot), gJ D clX L0 A s.heap (twG dA b σ12 G0) sz H locs → lv_has ls 6 [(0, .ref b), (1, .int p0), (3, .int y10), (4, .int y11)] → W p l e R s m args below meth c H locs 0 0 Q (F0 m 56 ls []) := by
        intro n
        induction n with
        | zero =>
          intro y10 y11 σ12 h
          rw [t_X6_peakIn_L9] at h
          cases h
        | succ n ihL9 =>
          intro y10 y11 σ12 h H locs ls hG hl
          rw [t_X6_peakIn_L9] at h
          refine lv_iload hx hb dX6_peakIn_56 (lv_at hl 3 rfl) ?_
          refine lv_iload_n hx hb dX6_peakIn_58 rfl (lv_at hl 1 rfl) ?_
          refine gb_icmp_ge hx hb dX6_peakIn_59 (tgt := 91) (by decide) h (fun h => ?_) (fun h => ?_)
          · exact J2 _ _ (Option.some.inj h).symm _ _ _ hG (lv_sub hl [2] rfl)
          · refine lv_aload_n hx hb dX6_peakIn_62 rfl (lv_at hl 0 rfl) ?_
            refine lv_aload_n hx hb dX6_peakIn_63 rfl (lv_at hl 0 rfl) ?_
            refine tw_getR hF hG 11 7 (by decide) q1844 rfl dX6_peakIn_64 ?_
            refine k_X6_ticks hF hL0 hG hl (Nat.le_of_ble_eq_true rfl) (Nat.le_of_ble_eq_true rfl) (by decide) h ⟨Nat.le_of_ble_eq_true rfl, Nat.le_of_ble_eq_true rfl⟩ (Nat.le_of_ble_eq_true rfl) dX6_peakIn_67 (fun v13 σ14 H locs h hG => ?_)
            refine lv_istore hx hb dX6_peakIn_70 hl (Nat.le_of_ble_eq_true rfl) (lv' := [(5, .int v13), (0, .ref b), (1, .int p0), (3, .int y10), (4, .int y11)]) rfl (fun ls hl => ?_)
            refine lv_iload hx hb dX6_peakIn_72 (lv_at hl 0 rfl) ?_
            refine lv_iload_n hx hb dX6_peakIn_74 rfl (lv_at hl 3 rfl) ?_
            obtain ⟨X3, h, hJ3⟩ := ob1_u h
            have J3 : ∀ (z15 : Int32), X3 = z15 → ∀ (H : Heap) (locs : List Loc) (ls : Array Slot), gJ D clX L0 A s.heap (twG dA b σ14 G0) sz H locs → lv_has ls 6 [(0, .ref b), (1, .int p0), (4, .int y11)] → W p l e R s m args below meth c H locs 0 0 Q (F0 m 84 ls [.int z15]) := by
              intro z15 e0 H locs ls hG hl
              have h := hJ3 z15 e0
              refine lv_istore_n hx hb dX6_peakIn_84 rfl hl (Nat.le_of_ble_eq_true rfl) (lv' := [(3, .int z15), (0, .ref b), (1, .int p0), (4, .int y11)]) rfl (fun ls hl => ?_)
              refine gb_iinc (k' := 1) hx hb dX6_peakIn_85 hl (k := 3) rfl (by decide) (Nat.le_of_ble_eq_true rfl) h (fun x16 ls h hl => ?_)
              have hl : lv_has ls 6 [(4, .int x16), (3, .int z15), (0, .ref b), (1, .int p0)] := hl
              refine lv_goto hx hb dX6_peakIn_88 (tgt := 56) (by decide) ?_
              exact ihL9 _ _ _ h _ _ _ hG (lv_sub hl [2, 3, 1, 0] rfl)
            refine gb_icmp_le hx hb dX6_peakIn_75 (tgt := 83) (by decide) h (fun h => ?_) (fun h => ?_)
            · refine lv_iload_n hx hb dX6_peakIn_83 rfl (lv_at hl 3 rfl) ?_
              exact J3 _ (Option.some.inj h).symm _ _ _ hG (lv_sub hl [1, 2, 4] rfl)
            · refine lv_iload hx hb dX6_peakIn_78 (lv_at hl 0 rfl) ?_
              refine lv_goto hx hb dX6_peakIn_80 (tgt := 84) (by decide) ?_
              exact J3 _ (Option.some.inj h).symm _ _ _ hG (lv_sub hl [1, 2, 4] rfl)
      exact LL9 _ _ _ _ h _ _ _ hG (lv_sub hl [2, 3, 1, 0] rfl)
    · refine lv_iconst (v := 0) hx hb dX6_peakIn_37 (by decide) ?_
      have h := Option.some.inj h
      subst h
      exact g_iret hQ hG ⟨rfl, rfl, rfl⟩ (Nat.le_refl _) (Nat.le_refl _) dX6_peakIn_38
  refine gb_if_eq hx hb dX6_peakIn_10 (tgt := 29) (by decide) h (fun h => ?_) (fun h => ?_)
  · refine lv_iconst (v := 0) hx hb dX6_peakIn_29 (by decide) ?_
    exact J1 _ (Option.some.inj h).symm _ _ _ hG hl
  · refine lv_iload_n hx hb dX6_peakIn_13 rfl (lv_at hl 2 rfl) ?_
    refine lv_i2l hx hb dX6_peakIn_14 rfl ?_
    refine lv_lconst (v := 1) hx hb dX6_peakIn_15 (by decide) ?_
    refine lv_ldc2 (v := 9999) hx hb hF.1.2.2.2.1 (hts _ q2245) dX6_peakIn_16 ?_
    refine k_X6_isIn hF hL0 hG hl (Nat.le_of_ble_eq_true rfl) (Nat.le_of_ble_eq_true rfl) h ⟨Nat.le_of_ble_eq_true rfl, Nat.le_of_ble_eq_true rfl⟩ (Nat.le_of_ble_eq_true rfl) dX6_peakIn_19 (fun v3 H locs h hG => ?_)
    refine gb_if_eq hx hb dX6_peakIn_22 (tgt := 29) (by decide) h (fun h => ?_) (fun h => ?_)
    · refine lv_iconst (v := 0) hx hb dX6_peakIn_29 (by decide) ?_
      exact J1 _ (Option.some.inj h).symm _ _ _ hG hl
    · refine lv_iconst (v := 1) hx hb dX6_peakIn_25 (by decide) ?_
      refine lv_goto hx hb dX6_peakIn_26 (tgt := 30) (by decide) ?_
      exact J1 _ (Option.some.inj h).symm _ _ _ hG hl
/-! sentIn -/
def t_X6_sentIn_L9 (p0 : Int32) : Nat → Int32 → TS → Option (TS)
  | 0, _, _ => none
  | n + 1, y10, σ11 =>
    if p0 ≤ y10 then (
    some σ11)
    else (
    ob2 (t_X6_ticks σ11 7) fun (v12 : Int32) (σ13 : TS) =>
    nm (y10 + 1) fun (x14 : Int32) =>
    t_X6_sentIn_L9 p0 n x14 σ13)
def t_X6_sentIn (σ : TS) (p0 : Int32) (p1 : Int32) : Option (Int32 × TS) :=
nm (T_sf σ 0 0) fun (σ1 : TS) =>
ob1 (t_X6_areTicks p0) fun (v2 : Int32) =>
ob1 (
if v2 = 0 then (
some (0 : Int32))
else (
ob1 (t_X6_isIn (p1.toInt64) 1 20) fun (v3 : Int32) =>
if v3 = 0 then (
some (0 : Int32))
else (
some (1 : Int32)))) fun (z4 : Int32) =>
ob2 (t_X6_may σ1 z4 1) fun (v5 : Int32) (σ6 : TS) =>
if v5 = 0 then (
some (0, σ6))
else (
ob1 (t_X6_laysThen σ6) fun (σ7 : TS) =>
ob1 (T_wr σ7 7 7 p1) fun (σ8 : TS) =>
ob1 (
t_X6_sentIn_L9 p0 4096 0 σ8) fun (σ15 : TS) =>
ob1 (T_rd σ15 7 4) fun (v16 : Int32) =>
ob1 (T_rd σ15 6 4) fun (v17 : Int32) =>
some ((v16 - v17), σ15))
set_option maxRecDepth 100000 in
theorem w_X6_sentIn {l : Launch} {D : va_G} {dA : Nat → ClassId} {K : gKT} {L0 b sz : Nat} {G0 : GH} (hKo : gKo D clX (tyA dA) K) (hL0 : L0 ≤ b) (σ : TS) (p0 : Int32) (p1 : Int32)  {out : Int32 × TS} (h : t_X6_sentIn σ p0 p1 = some out) : gMet l yX6_sentIn (ws_ yX6_sentIn cX6_sentIn 5 (some .int)) D clX L0 K [.ref b, .int p0, .int p1] (twG dA b σ G0) sz 6 141 0 0 (twRI dA b out.2 G0 sz out.1) := by
  refine gMet.of (own := RX6) hKo (by decide +kernel) (Nat.le_of_ble_eq_true rfl) rfl ?_
  intro p e R s m args below meth c A Q ls H hF hQ hin hG hl
  have hx := hF.1.1
  have hb := hF.1.2.1
  have hts := hF.1.2.2.2.2
  have hl : lv_has ls 5 [(0, .ref b), (1, .int p0), (2, .int p1)] := hl
  unfold t_X6_sentIn at h
  refine lv_aload_n hx hb dX6_sentIn_0 rfl (lv_at hl 0 rfl) ?_
  refine lv_iconst (v := 0) hx hb dX6_sentIn_1 (by decide) ?_
  refine tw_putI hF hL0 hG 0 (by decide) q1833 rfl h dX6_sentIn_2 (fun σ1 H locs h hG => ?_)
  refine lv_aload_n hx hb dX6_sentIn_5 rfl (lv_at hl 0 rfl) ?_
  refine lv_iload_n hx hb dX6_sentIn_6 rfl (lv_at hl 1 rfl) ?_
  refine k_X6_areTicks hF hL0 hG hl (Nat.le_of_ble_eq_true rfl) (Nat.le_of_ble_eq_true rfl) h ⟨Nat.le_of_ble_eq_true rfl, Nat.le_of_ble_eq_true rfl⟩ (Nat.le_of_ble_eq_true rfl) dX6_sentIn_7 (fun v2 H locs h hG => ?_)
  obtain ⟨X1, h, hJ1⟩ := ob1_u h
  have J1 : ∀ (z4 : Int32), X1 = z4 → ∀ (H : Heap) (locs : List Loc) (ls : Array Slot), gJ D clX L0 A s.heap (twG dA b σ1 G0) sz H locs → lv_has ls 5 [(0, .ref b), (1, .int p0), (2, .int p1)] → W p l e R s m args below meth c H locs 0 0 Q (F0 m 30 ls [.int z4, .ref b]) := by
    intro z4 e0 H locs ls hG hl
    have h := hJ1 z4 e0
    refine lv_iconst (v := 1) hx hb dX6_sentIn_30 (by decide) ?_
    refine k_X6_may hF hL0 hG hl (Nat.le_of_ble_eq_true rfl) (Nat.le_of_ble_eq_true rfl) h ⟨Nat.le_of_ble_eq_true rfl, Nat.le_of_ble_eq_true rfl⟩ (Nat.le_of_ble_eq_true rfl) dX6_sentIn_31 (fun v5 σ6 H locs h hG => ?_)
    refine gb_if_ne hx hb dX6_sentIn_34 (tgt := 39) (by decide) h (fun h => ?_) (fun h => ?_)
    · refine lv_aload_n hx hb dX6_sentIn_39 rfl (lv_at hl 0 rfl) ?_
      refine k_X6_laysThen hF hL0 hG hl (Nat.le_of_ble_eq_true rfl) (Nat.le_of_ble_eq_true rfl) h ⟨Nat.le_of_ble_eq_true rfl, Nat.le_of_ble_eq_true rfl⟩ (Nat.le_of_ble_eq_true rfl) dX6_sentIn_40 (fun σ7 H locs h hG => ?_)
      refine lv_aload_n hx hb dX6_sentIn_43 rfl (lv_at hl 0 rfl) ?_
      refine tw_getR hF hG 11 7 (by decide) q1844 rfl dX6_sentIn_44 ?_
      refine lv_bipush (v := 7) hx hb dX6_sentIn_47 (by decide) ?_
      refine lv_iload_n hx hb dX6_sentIn_49 rfl (lv_at hl 2 rfl) ?_
      refine tw_wr hF hL0 hG (j := 7) (by decide) h dX6_sentIn_50 (fun σ8 H locs h hG => ?_)
      refine lv_iconst (v := 0) hx hb dX6_sentIn_51 (by decide) ?_
      refine lv_istore_n hx hb dX6_sentIn_52 rfl hl (Nat.le_of_ble_eq_true rfl) (lv' := [(3, .int 0), (0, .ref b), (1, .int p0), (2, .int p1)]) rfl (fun ls hl => ?_)
      obtain ⟨X2, h, hJ2⟩ := ob1_u h
      have J2 : ∀ (σ15 : TS), X2 = σ15 → ∀ (H : Heap) (locs : List Loc) (ls : Array Slot), gJ D clX L0 A s.heap (twG dA b σ15 G0) sz H locs → lv_has ls 5 [(0, .ref b)] → W p l e R s m args below meth c H locs 0 0 Q (F0 m 74 ls []) := by
        intro σ15 e0 H locs ls hG hl
        have h := hJ2 σ15 e0
        refine lv_aload_n hx hb dX6_sentIn_74 rfl (lv_at hl 0 rfl) ?_
        refine tw_getR hF hG 11 7 (by decide) q1844 rfl dX6_sentIn_75 ?_
        refine lv_iconst (v := 4) hx hb dX6_sentIn_78 (by decide) ?_
        refine tw_rd hF hG (j := 7) (by decide) h dX6_sentIn_79 (fun v16 h => ?_)
        refine lv_aload_n hx hb dX6_sentIn_80 rfl (lv_at hl 0 rfl) ?_
        refine tw_getR hF hG 10 6 (by decide) q1843 rfl dX6_sentIn_81 ?_
        refine lv_iconst (v := 4) hx hb dX6_sentIn_84 (by decide) ?_
        refine tw_rd hF hG (j := 6) (by decide) h dX6_sentIn_85 (fun v17 h => ?_)
        refine lv_isub hx hb dX6_sentIn_86 ?_
        have h := Option.some.inj h
        subst h
        exact g_iret hQ hG ⟨rfl, rfl, rfl⟩ (Nat.le_refl _) (Nat.le_refl _) dX6_sentIn_87
      have LL9 : ∀ (n : Nat) (y10 : Int32) (σ11 : TS), t_X6_sentIn_L9 p0 n y10 σ11 = some X2 → ∀ (H : Heap) (locs : List Loc) (ls : Array Slot), gJ D clX L0 A s.heap (twG dA b σ11 G0) sz H locs → lv_has ls 5 [(0, .ref b), (1, .int p0), (3, .int y10)] → W p l e R s m args below meth c H locs 0 0 Q (F0 m 53 ls []) := by
        intro n
        induction n with
        | zero =>
          intro y10 σ11 h
          rw [t_X6_sentIn_L9] at h
          cases h
        | succ n ihL9 =>
          intro y10 σ11 h H locs ls hG hl
          rw [t_X6_sentIn_L9] at h
          refine lv_iload_n hx hb dX6_sentIn_53 rfl (lv_at hl 2 rfl) ?_
          refine lv_iload_n hx hb dX6_sentIn_54 rfl (lv_at hl 1 rfl) ?_
          refine gb_icmp_ge hx hb dX6_sentIn_55 (tgt := 74) (by decide) h (fun h => ?_) (fun h => ?_)
          · exact J2 _ (Option.some.inj h).symm _ _ _ hG (lv_sub hl [0] rfl)
          · refine lv_aload_n hx hb dX6_sentIn_58 rfl (lv_at hl 0 rfl) ?_
            refine lv_aload_n hx hb dX6_sentIn_59 rfl (lv_at hl 0 rfl) ?_
            refine tw_getR hF hG 11 7 (by decide) q1844 rfl dX6_sentIn_60 ?_
            refine k_X6_ticks hF hL0 hG hl (Nat.le_of_ble_eq_true rfl) (Nat.le_of_ble_eq_true rfl) (by decide) h ⟨Nat.le_of_ble_eq_true rfl, Nat.le_of_ble_eq_true rfl⟩ (Nat.le_of_ble_eq_true rfl) dX6_sentIn_63 (fun v12 σ13 H locs h hG => ?_)
            refine lv_istore hx hb dX6_sentIn_66 hl (Nat.le_of_ble_eq_true rfl) (lv' := [(4, .int v12), (0, .ref b), (1, .int p0), (3, .int y10)]) rfl (fun ls hl => ?_)
            refine gb_iinc (k' := 1) hx hb dX6_sentIn_68 hl (k := 3) rfl (by decide) (Nat.le_of_ble_eq_true rfl) h (fun x14 ls h hl => ?_)
            have hl : lv_has ls 5 [(3, .int x14), (4, .int v12), (0, .ref b), (1, .int p0)] := hl
            refine lv_goto hx hb dX6_sentIn_71 (tgt := 53) (by decide) ?_
            exact ihL9 _ _ h _ _ _ hG (lv_sub hl [2, 3, 0] rfl)
      exact LL9 _ _ _ h _ _ _ hG (lv_sub hl [1, 2, 0] rfl)
    · refine lv_iconst (v := 0) hx hb dX6_sentIn_37 (by decide) ?_
      have h := Option.some.inj h
      subst h
      exact g_iret hQ hG ⟨rfl, rfl, rfl⟩ (Nat.le_refl _) (Nat.le_refl _) dX6_sentIn_38
  refine gb_if_eq hx hb dX6_sentIn_10 (tgt := 29) (by decide) h (fun h => ?_) (fun h => ?_)
  · refine lv_iconst (v := 0) hx hb dX6_sentIn_29 (by decide) ?_
    exact J1 _ (Option.some.inj h).symm _ _ _ hG hl
  · refine lv_iload_n hx hb dX6_sentIn_13 rfl (lv_at hl 2 rfl) ?_
    refine lv_i2l hx hb dX6_sentIn_14 rfl ?_
    refine lv_lconst (v := 1) hx hb dX6_sentIn_15 (by decide) ?_
    refine lv_ldc2 (v := 20) hx hb hF.1.2.2.2.1 (hts _ q2250) dX6_sentIn_16 ?_
    refine k_X6_isIn hF hL0 hG hl (Nat.le_of_ble_eq_true rfl) (Nat.le_of_ble_eq_true rfl) h ⟨Nat.le_of_ble_eq_true rfl, Nat.le_of_ble_eq_true rfl⟩ (Nat.le_of_ble_eq_true rfl) dX6_sentIn_19 (fun v3 H locs h hG => ?_)
    refine gb_if_eq hx hb dX6_sentIn_22 (tgt := 29) (by decide) h (fun h => ?_) (fun h => ?_)
    · refine lv_iconst (v := 0) hx hb dX6_sentIn_29 (by decide) ?_
      exact J1 _ (Option.some.inj h).symm _ _ _ hG hl
    · refine lv_iconst (v := 1) hx hb dX6_sentIn_25 (by decide) ?_
      refine lv_goto hx hb dX6_sentIn_26 (tgt := 30) (by decide) ?_
      exact J1 _ (Option.some.inj h).symm _ _ _ hG hl
/-! keeps -/
def t_X6_keeps_L2 : Nat → Int32 → TS → Option (TS)
  | 0, _, _ => none
  | n + 1, y3, σ4 =>
    if (411 * (σ4.1 15)) ≤ y3 then (
    some σ4)
    else (
    ob1 (T_rd σ4 8 (y3 + 411)) fun (v5 : Int32) =>
    ob1 (T_wr σ4 8 y3 v5) fun (σ6 : TS) =>
    nm (y3 + 1) fun (x7 : Int32) =>
    t_X6_keeps_L2 n x7 σ6)
def t_X6_keeps_L10 : Nat → Int32 → TS → Option (TS)
  | 0, _, _ => none
  | n + 1, y11, σ12 =>
    if 411 ≤ y11 then (
    some σ12)
    else (
    ob1 (T_rd σ12 6 y11) fun (v13 : Int32) =>
    ob1 (T_wr σ12 8 ((411 * (σ12.1 15)) + y11) v13) fun (σ14 : TS) =>
    nm (y11 + 1) fun (x15 : Int32) =>
    t_X6_keeps_L10 n x15 σ14)
def t_X6_keeps (σ : TS) : Option (TS) :=
ob1 (
if (σ.1 15) = 8 then (
nm (T_sf σ 15 ((σ.1 15) - 1)) fun (σ1 : TS) =>
ob1 (
t_X6_keeps_L2 4096 0 σ1) fun (σ8 : TS) =>
some σ8)
else (
some σ)) fun (σ9 : TS) =>
ob1 (
t_X6_keeps_L10 4096 0 σ9) fun (σ16 : TS) =>
nm (T_sf σ16 15 ((σ16.1 15) + 1)) fun (σ17 : TS) =>
some σ17
set_option maxRecDepth 100000 in
theorem w_X6_keeps {l : Launch} {D : va_G} {dA : Nat → ClassId} {K : gKT} {L0 b sz : Nat} {G0 : GH} (hKo : gKo D clX (tyA dA) K) (hL0 : L0 ≤ b) (σ : TS)  {out : TS} (h : t_X6_keeps σ = some out) : gMet l yX6_keeps (ws_ yX6_keeps cX6_keeps 2 none) D clX L0 K [.ref b] (twG dA b σ G0) sz 0 0 0 0 (twRV dA b out G0 sz) := by
  refine gMet.of (own := RX6) hKo (by decide +kernel) (Nat.le_of_ble_eq_true rfl) rfl ?_
  intro p e R s m args below meth c A Q ls H hF hQ hin hG hl
  have hx := hF.1.1
  have hb := hF.1.2.1
  have hts := hF.1.2.2.2.2
  have hl : lv_has ls 2 [(0, .ref b)] := hl
  unfold t_X6_keeps at h
  refine lv_aload_n hx hb dX6_keeps_0 rfl (lv_at hl 0 rfl) ?_
  refine tw_getI hF hG 15 (by decide) q1848 rfl dX6_keeps_1 ?_
  refine lv_bipush (v := 8) hx hb dX6_keeps_4 (by decide) ?_
  obtain ⟨X1, h, hJ1⟩ := ob1_u h
  have J1 : ∀ (σ9 : TS), X1 = σ9 → ∀ (H : Heap) (locs : List Loc) (ls : Array Slot), gJ D clX L0 A s.heap (twG dA b σ9 G0) sz H locs → lv_has ls 2 [(0, .ref b)] → W p l e R s m args below meth c H locs 0 0 Q (F0 m 55 ls []) := by
    intro σ9 e0 H locs ls hG hl
    have h := hJ1 σ9 e0
    refine lv_iconst (v := 0) hx hb dX6_keeps_55 (by decide) ?_
    refine lv_istore_n hx hb dX6_keeps_56 rfl hl (Nat.le_of_ble_eq_true rfl) (lv' := [(1, .int 0), (0, .ref b)]) rfl (fun ls hl => ?_)
    obtain ⟨X2, h, hJ2⟩ := ob1_u h
    have J2 : ∀ (σ16 : TS), X2 = σ16 → ∀ (H : Heap) (locs : List Loc) (ls : Array Slot), gJ D clX L0 A s.heap (twG dA b σ16 G0) sz H locs → lv_has ls 2 [(0, .ref b)] → W p l e R s m args below meth c H locs 0 0 Q (F0 m 91 ls []) := by
      intro σ16 e0 H locs ls hG hl
      have h := hJ2 σ16 e0
      refine lv_aload_n hx hb dX6_keeps_91 rfl (lv_at hl 0 rfl) ?_
      refine lv_dup hx hb dX6_keeps_92 rfl ?_
      refine tw_getI hF hG 15 (by decide) q1848 rfl dX6_keeps_93 ?_
      refine lv_iconst (v := 1) hx hb dX6_keeps_96 (by decide) ?_
      refine lv_iadd hx hb dX6_keeps_97 ?_
      refine tw_putI hF hL0 hG 15 (by decide) q1848 rfl h dX6_keeps_98 (fun σ17 H locs h hG => ?_)
      have h := Option.some.inj h
      subst h
      exact g_vret hQ hG ⟨rfl, rfl, rfl⟩ (Nat.le_refl _) (Nat.le_refl _) dX6_keeps_101
    have LL10 : ∀ (n : Nat) (y11 : Int32) (σ12 : TS), t_X6_keeps_L10 n y11 σ12 = some X2 → ∀ (H : Heap) (locs : List Loc) (ls : Array Slot), gJ D clX L0 A s.heap (twG dA b σ12 G0) sz H locs → lv_has ls 2 [(0, .ref b), (1, .int y11)] → W p l e R s m args below meth c H locs 0 0 Q (F0 m 57 ls []) := by
      intro n
      induction n with
      | zero =>
        intro y11 σ12 h
        rw [t_X6_keeps_L10] at h
        cases h
      | succ n ihL10 =>
        intro y11 σ12 h H locs ls hG hl
        rw [t_X6_keeps_L10] at h
        refine lv_iload_n hx hb dX6_keeps_57 rfl (lv_at hl 1 rfl) ?_
        refine lv_sipush (v := 411) hx hb dX6_keeps_58 (by decide) ?_
        refine gb_icmp_ge hx hb dX6_keeps_61 (tgt := 91) (by decide) h (fun h => ?_) (fun h => ?_)
        · exact J2 _ (Option.some.inj h).symm _ _ _ hG (lv_sub hl [0] rfl)
        · refine lv_aload_n hx hb dX6_keeps_64 rfl (lv_at hl 0 rfl) ?_
          refine tw_getR hF hG 12 8 (by decide) q1845 rfl dX6_keeps_65 ?_
          refine lv_sipush (v := 411) hx hb dX6_keeps_68 (by decide) ?_
          refine lv_aload_n hx hb dX6_keeps_71 rfl (lv_at hl 0 rfl) ?_
          refine tw_getI hF hG 15 (by decide) q1848 rfl dX6_keeps_72 ?_
          refine lv_imul hx hb dX6_keeps_75 ?_
          refine lv_iload_n hx hb dX6_keeps_76 rfl (lv_at hl 1 rfl) ?_
          refine lv_iadd hx hb dX6_keeps_77 ?_
          refine lv_aload_n hx hb dX6_keeps_78 rfl (lv_at hl 0 rfl) ?_
          refine tw_getR hF hG 10 6 (by decide) q1843 rfl dX6_keeps_79 ?_
          refine lv_iload_n hx hb dX6_keeps_82 rfl (lv_at hl 1 rfl) ?_
          refine tw_rd hF hG (j := 6) (by decide) h dX6_keeps_83 (fun v13 h => ?_)
          refine tw_wr hF hL0 hG (j := 8) (by decide) h dX6_keeps_84 (fun σ14 H locs h hG => ?_)
          refine gb_iinc (k' := 1) hx hb dX6_keeps_85 hl (k := 1) rfl (by decide) (Nat.le_of_ble_eq_true rfl) h (fun x15 ls h hl => ?_)
          have hl : lv_has ls 2 [(1, .int x15), (0, .ref b)] := hl
          refine lv_goto hx hb dX6_keeps_88 (tgt := 57) (by decide) ?_
          exact ihL10 _ _ h _ _ _ hG (lv_sub hl [1, 0] rfl)
    exact LL10 _ _ _ h _ _ _ hG (lv_sub hl [1, 0] rfl)
  refine gb_icmp_ne hx hb dX6_keeps_6 (tgt := 55) (by decide) h (fun h => ?_) (fun h => ?_)
  · exact J1 _ (Option.some.inj h).symm _ _ _ hG hl
  · refine lv_aload_n hx hb dX6_keeps_9 rfl (lv_at hl 0 rfl) ?_
    refine lv_dup hx hb dX6_keeps_10 rfl ?_
    refine tw_getI hF hG 15 (by decide) q1848 rfl dX6_keeps_11 ?_
    refine lv_iconst (v := 1) hx hb dX6_keeps_14 (by decide) ?_
    refine lv_isub hx hb dX6_keeps_15 ?_
    refine tw_putI hF hL0 hG 15 (by decide) q1848 rfl h dX6_keeps_16 (fun σ1 H locs h hG => ?_)
    refine lv_iconst (v := 0) hx hb dX6_keeps_19 (by decide) ?_
    refine lv_istore_n hx hb dX6_keeps_20 rfl hl (Nat.le_of_ble_eq_true rfl) (lv' := [(1, .int 0), (0, .ref b)]) rfl (fun ls hl => ?_)
    obtain ⟨X3, h, hJ3⟩ := ob1_u h
    have J3 : ∀ (σ8 : TS), X3 = σ8 → ∀ (H : Heap) (locs : List Loc) (ls : Array Slot), gJ D clX L0 A s.heap (twG dA b σ8 G0) sz H locs → lv_has ls 2 [(0, .ref b)] → W p l e R s m args below meth c H locs 0 0 Q (F0 m 55 ls []) := by
      intro σ8 e0 H locs ls hG hl
      have h := hJ3 σ8 e0
      exact J1 _ (Option.some.inj h).symm _ _ _ hG hl
    have LL2 : ∀ (n : Nat) (y3 : Int32) (σ4 : TS), t_X6_keeps_L2 n y3 σ4 = some X3 → ∀ (H : Heap) (locs : List Loc) (ls : Array Slot), gJ D clX L0 A s.heap (twG dA b σ4 G0) sz H locs → lv_has ls 2 [(0, .ref b), (1, .int y3)] → W p l e R s m args below meth c H locs 0 0 Q (F0 m 21 ls []) := by
      intro n
      induction n with
      | zero =>
        intro y3 σ4 h
        rw [t_X6_keeps_L2] at h
        cases h
      | succ n ihL2 =>
        intro y3 σ4 h H locs ls hG hl
        rw [t_X6_keeps_L2] at h
        refine lv_iload_n hx hb dX6_keeps_21 rfl (lv_at hl 1 rfl) ?_
        refine lv_sipush (v := 411) hx hb dX6_keeps_22 (by decide) ?_
        refine lv_aload_n hx hb dX6_keeps_25 rfl (lv_at hl 0 rfl) ?_
        refine tw_getI hF hG 15 (by decide) q1848 rfl dX6_keeps_26 ?_
        refine lv_imul hx hb dX6_keeps_29 ?_
        refine gb_icmp_ge hx hb dX6_keeps_30 (tgt := 55) (by decide) h (fun h => ?_) (fun h => ?_)
        · exact J3 _ (Option.some.inj h).symm _ _ _ hG (lv_sub hl [0] rfl)
        · refine lv_aload_n hx hb dX6_keeps_33 rfl (lv_at hl 0 rfl) ?_
          refine tw_getR hF hG 12 8 (by decide) q1845 rfl dX6_keeps_34 ?_
          refine lv_iload_n hx hb dX6_keeps_37 rfl (lv_at hl 1 rfl) ?_
          refine lv_aload_n hx hb dX6_keeps_38 rfl (lv_at hl 0 rfl) ?_
          refine tw_getR hF hG 12 8 (by decide) q1845 rfl dX6_keeps_39 ?_
          refine lv_iload_n hx hb dX6_keeps_42 rfl (lv_at hl 1 rfl) ?_
          refine lv_sipush (v := 411) hx hb dX6_keeps_43 (by decide) ?_
          refine lv_iadd hx hb dX6_keeps_46 ?_
          refine tw_rd hF hG (j := 8) (by decide) h dX6_keeps_47 (fun v5 h => ?_)
          refine tw_wr hF hL0 hG (j := 8) (by decide) h dX6_keeps_48 (fun σ6 H locs h hG => ?_)
          refine gb_iinc (k' := 1) hx hb dX6_keeps_49 hl (k := 1) rfl (by decide) (Nat.le_of_ble_eq_true rfl) h (fun x7 ls h hl => ?_)
          have hl : lv_has ls 2 [(1, .int x7), (0, .ref b)] := hl
          refine lv_goto hx hb dX6_keeps_52 (tgt := 21) (by decide) ?_
          exact ihL2 _ _ h _ _ _ hG (lv_sub hl [1, 0] rfl)
    exact LL2 _ _ _ h _ _ _ hG (lv_sub hl [1, 0] rfl)
theorem k_X6_keeps (hF : gX p m c cc nL s args RX6 D clX (tyA dA) K A R rm) (hL0 : L0 ≤ b) (hG : gJ D clX L0 A s.heap (twG dA b σ G0) n H locs) (hl : lv_has ls nL lv) (h1 : 0 + 1 ≤ rm.frames) (h2 : 8 + (2 + 11) + 0 ≤ rm.locals) {γ : Type} {f : TS → Option γ} {o : γ} (h : ob1 (t_X6_keeps σ) f = some o) (hc : cells ≤ rm.cells ∧ slots ≤ rm.slots) (hW : (rest.map fun v => v.category).sum ≤ 8) (hdg : decode cc pc = .ok (.invokevirtual 335, 3))
    (kk : ∀ (σ1 : TS) (H1 : Heap) (locs1 : List Loc), f σ1 = some o → gJ D clX L0 A s.heap (twG dA b σ1 G0) n H1 locs1 → W p l e R s m args below meth c H1 locs1 cells slots Q (F0 m (pc + 3) ls rest)) : W p l e R s m args below meth c H locs cells slots Q (F0 m pc ls (.ref b :: rest)) := by
  obtain ⟨r, hr, h⟩ := ob1_e h
  refine g_callV hF hG hl twG_obj (C := RX6) (T := TX6) (N := 35) rfl (w_X6_keeps hF.2.2.1 hL0 σ hr) (cwV 0 hF.1.2.2.2.2 (lw_V q2256 q2258 qs80 q108 q2259) rfl rfl rfl (by decide +kernel) (g_room hF h1 h2)) rfl rfl hW hdg ⟨by rw [hF.2.2.2.2]; exact hc.1, by rw [hF.2.2.2.2]; exact hc.2⟩ (fun v G1 n1 H1 locs1 hR hG1 => ?_)
  obtain ⟨rfl, rfl, rfl⟩ := hR
  exact kk r H1 locs1 h hG1
/-! run -/
def t_X6_run_L10 (p0 : Int32) : Nat → Int32 → TS → Option (TS)
  | 0, _, _ => none
  | n + 1, y11, σ12 =>
    if p0 ≤ y11 then (
    some σ12)
    else (
    ob2 (t_X6_ticks σ12 6) fun (v13 : Int32) (σ14 : TS) =>
    nm (y11 + 1) fun (x15 : Int32) =>
    t_X6_run_L10 p0 n x15 σ14)
def t_X6_run_L17 (σ16 : TS) : Nat → Int32 → Int32 → Option (Int32)
  | 0, _, _ => none
  | n + 1, y18, y19 =>
    if (σ16.1 1) ≤ y19 then (
    some y18)
    else (
    ob1 (t_X6_at y19 2) fun (v20 : Int32) =>
    ob1 (T_rd σ16 6 v20) fun (v21 : Int32) =>
    ob1 (
    if v21 = 3 then (
    some (1 : Int32))
    else (
    some (0 : Int32))) fun (z22 : Int32) =>
    nm (y18 + z22) fun (x23 : Int32) =>
    nm (y19 + 1) fun (x24 : Int32) =>
    t_X6_run_L17 σ16 n x23 x24)
def t_X6_run (σ : TS) (p0 : Int32) : Option (Int32 × TS) :=
nm (T_sf σ 0 0) fun (σ1 : TS) =>
ob1 (t_X6_isIn (p0.toInt64) 1 200) fun (v2 : Int32) =>
ob2 (t_X6_may σ1 v2 1) fun (v3 : Int32) (σ4 : TS) =>
if v3 = 0 then (
some (0, σ4))
else (
ob1 (T_rd σ4 6 0) fun (v5 : Int32) =>
ob1 (
if 5000 < (v5 + p0) then (
some (0 : Int32))
else (
some (1 : Int32))) fun (z6 : Int32) =>
ob2 (t_X6_may σ4 z6 2) fun (v7 : Int32) (σ8 : TS) =>
if v7 = 0 then (
some (0, σ8))
else (
ob1 (t_X6_keeps σ8) fun (σ9 : TS) =>
ob1 (
t_X6_run_L10 p0 4096 0 σ9) fun (σ16 : TS) =>
ob1 (
t_X6_run_L17 σ16 4096 0 0) fun (z25 : Int32) =>
some (z25, σ16)))
set_option maxRecDepth 100000 in
theorem w_X6_run {l : Launch} {D : va_G} {dA : Nat → ClassId} {K : gKT} {L0 b sz : Nat} {G0 : GH} (hKo : gKo D clX (tyA dA) K) (hL0 : L0 ≤ b) (σ : TS) (p0 : Int32)  {out : Int32 × TS} (h : t_X6_run σ p0 = some out) : gMet l yX6_run (ws_ yX6_run cX6_run 4 (some .int)) D clX L0 K [.ref b, .int p0] (twG dA b σ G0) sz 6 141 0 0 (twRI dA b out.2 G0 sz out.1) := by
  refine gMet.of (own := RX6) hKo (by decide +kernel) (Nat.le_of_ble_eq_true rfl) rfl ?_
  intro p e R s m args below meth c A Q ls H hF hQ hin hG hl
  have hx := hF.1.1
  have hb := hF.1.2.1
  have hts := hF.1.2.2.2.2
  have hl : lv_has ls 4 [(0, .ref b), (1, .int p0)] := hl
  unfold t_X6_run at h
  refine lv_aload_n hx hb dX6_run_0 rfl (lv_at hl 0 rfl) ?_
  refine lv_iconst (v := 0) hx hb dX6_run_1 (by decide) ?_
  refine tw_putI hF hL0 hG 0 (by decide) q1833 rfl h dX6_run_2 (fun σ1 H locs h hG => ?_)
  refine lv_aload_n hx hb dX6_run_5 rfl (lv_at hl 0 rfl) ?_
  refine lv_iload_n hx hb dX6_run_6 rfl (lv_at hl 1 rfl) ?_
  refine lv_i2l hx hb dX6_run_7 rfl ?_
  refine lv_lconst (v := 1) hx hb dX6_run_8 (by decide) ?_
  refine lv_ldc2 (v := 200) hx hb hF.1.2.2.2.1 (hts _ q2255) dX6_run_9 ?_
  refine k_X6_isIn hF hL0 hG hl (Nat.le_of_ble_eq_true rfl) (Nat.le_of_ble_eq_true rfl) h ⟨Nat.le_of_ble_eq_true rfl, Nat.le_of_ble_eq_true rfl⟩ (Nat.le_of_ble_eq_true rfl) dX6_run_12 (fun v2 H locs h hG => ?_)
  refine lv_iconst (v := 1) hx hb dX6_run_15 (by decide) ?_
  refine k_X6_may hF hL0 hG hl (Nat.le_of_ble_eq_true rfl) (Nat.le_of_ble_eq_true rfl) h ⟨Nat.le_of_ble_eq_true rfl, Nat.le_of_ble_eq_true rfl⟩ (Nat.le_of_ble_eq_true rfl) dX6_run_16 (fun v3 σ4 H locs h hG => ?_)
  refine gb_if_eq hx hb dX6_run_19 (tgt := 49) (by decide) h (fun h => ?_) (fun h => ?_)
  · refine lv_iconst (v := 0) hx hb dX6_run_49 (by decide) ?_
    have h := Option.some.inj h
    subst h
    exact g_iret hQ hG ⟨rfl, rfl, rfl⟩ (Nat.le_refl _) (Nat.le_refl _) dX6_run_50
  · refine lv_aload_n hx hb dX6_run_22 rfl (lv_at hl 0 rfl) ?_
    refine lv_aload_n hx hb dX6_run_23 rfl (lv_at hl 0 rfl) ?_
    refine tw_getR hF hG 10 6 (by decide) q1843 rfl dX6_run_24 ?_
    refine lv_iconst (v := 0) hx hb dX6_run_27 (by decide) ?_
    refine tw_rd hF hG (j := 6) (by decide) h dX6_run_28 (fun v5 h => ?_)
    refine lv_iload_n hx hb dX6_run_29 rfl (lv_at hl 1 rfl) ?_
    refine lv_iadd hx hb dX6_run_30 ?_
    refine lv_sipush (v := 5000) hx hb dX6_run_31 (by decide) ?_
    obtain ⟨X1, h, hJ1⟩ := ob1_u h
    have J1 : ∀ (z6 : Int32), X1 = z6 → ∀ (H : Heap) (locs : List Loc) (ls : Array Slot), gJ D clX L0 A s.heap (twG dA b σ4 G0) sz H locs → lv_has ls 4 [(0, .ref b), (1, .int p0)] → W p l e R s m args below meth c H locs 0 0 Q (F0 m 42 ls [.int z6, .ref b]) := by
      intro z6 e0 H locs ls hG hl
      have h := hJ1 z6 e0
      refine lv_iconst (v := 2) hx hb dX6_run_42 (by decide) ?_
      refine k_X6_may hF hL0 hG hl (Nat.le_of_ble_eq_true rfl) (Nat.le_of_ble_eq_true rfl) h ⟨Nat.le_of_ble_eq_true rfl, Nat.le_of_ble_eq_true rfl⟩ (Nat.le_of_ble_eq_true rfl) dX6_run_43 (fun v7 σ8 H locs h hG => ?_)
      refine gb_if_ne hx hb dX6_run_46 (tgt := 51) (by decide) h (fun h => ?_) (fun h => ?_)
      · refine lv_aload_n hx hb dX6_run_51 rfl (lv_at hl 0 rfl) ?_
        refine k_X6_keeps hF hL0 hG hl (Nat.le_of_ble_eq_true rfl) (Nat.le_of_ble_eq_true rfl) h ⟨Nat.le_of_ble_eq_true rfl, Nat.le_of_ble_eq_true rfl⟩ (Nat.le_of_ble_eq_true rfl) dX6_run_52 (fun σ9 H locs h hG => ?_)
        refine lv_iconst (v := 0) hx hb dX6_run_55 (by decide) ?_
        refine lv_istore_n hx hb dX6_run_56 rfl hl (Nat.le_of_ble_eq_true rfl) (lv' := [(2, .int 0), (0, .ref b), (1, .int p0)]) rfl (fun ls hl => ?_)
        obtain ⟨X2, h, hJ2⟩ := ob1_u h
        have J2 : ∀ (σ16 : TS), X2 = σ16 → ∀ (H : Heap) (locs : List Loc) (ls : Array Slot), gJ D clX L0 A s.heap (twG dA b σ16 G0) sz H locs → lv_has ls 4 [(0, .ref b)] → W p l e R s m args below meth c H locs 0 0 Q (F0 m 77 ls []) := by
          intro σ16 e0 H locs ls hG hl
          have h := hJ2 σ16 e0
          refine lv_iconst (v := 0) hx hb dX6_run_77 (by decide) ?_
          refine lv_istore_n hx hb dX6_run_78 rfl hl (Nat.le_of_ble_eq_true rfl) (lv' := [(2, .int 0), (0, .ref b)]) rfl (fun ls hl => ?_)
          refine lv_iconst (v := 0) hx hb dX6_run_79 (by decide) ?_
          refine lv_istore_n hx hb dX6_run_80 rfl hl (Nat.le_of_ble_eq_true rfl) (lv' := [(3, .int 0), (2, .int 0), (0, .ref b)]) rfl (fun ls hl => ?_)
          obtain ⟨X3, h, hJ3⟩ := ob1_u h
          have J3 : ∀ (z25 : Int32), X3 = z25 → ∀ (H : Heap) (locs : List Loc) (ls : Array Slot), gJ D clX L0 A s.heap (twG dA b σ16 G0) sz H locs → lv_has ls 4 [(2, .int z25)] → W p l e R s m args below meth c H locs 0 0 Q (F0 m 117 ls []) := by
            intro z25 e0 H locs ls hG hl
            have h := hJ3 z25 e0
            refine lv_iload_n hx hb dX6_run_117 rfl (lv_at hl 0 rfl) ?_
            have h := Option.some.inj h
            subst h
            exact g_iret hQ hG ⟨rfl, rfl, rfl⟩ (Nat.le_refl _) (Nat.le_refl _) dX6_run_118
          have LL17 : ∀ (n : Nat) (y18 : Int32) (y19 : Int32), t_X6_run_L17 σ16 n y18 y19 = some X3 → ∀ (H : Heap) (locs : List Loc) (ls : Array Slot), gJ D clX L0 A s.heap (twG dA b σ16 G0) sz H locs → lv_has ls 4 [(0, .ref b), (2, .int y18), (3, .int y19)] → W p l e R s m args below meth c H locs 0 0 Q (F0 m 81 ls []) := by
            intro n
            induction n with
            | zero =>
              intro y18 y19 h
              rw [t_X6_run_L17] at h
              cases h
            | succ n ihL17 =>
              intro y18 y19 h H locs ls hG hl
              rw [t_X6_run_L17] at h
              refine lv_iload_n hx hb dX6_run_81 rfl (lv_at hl 2 rfl) ?_
              refine lv_aload_n hx hb dX6_run_82 rfl (lv_at hl 0 rfl) ?_
              refine tw_getI hF hG 1 (by decide) q1834 rfl dX6_run_83 ?_
              refine gb_icmp_ge hx hb dX6_run_86 (tgt := 117) (by decide) h (fun h => ?_) (fun h => ?_)
              · exact J3 _ (Option.some.inj h).symm _ _ _ hG (lv_sub hl [1] rfl)
              · refine lv_iload_n hx hb dX6_run_89 rfl (lv_at hl 1 rfl) ?_
                refine lv_aload_n hx hb dX6_run_90 rfl (lv_at hl 0 rfl) ?_
                refine tw_getR hF hG 10 6 (by decide) q1843 rfl dX6_run_91 ?_
                refine lv_iload_n hx hb dX6_run_94 rfl (lv_at hl 2 rfl) ?_
                refine lv_iconst (v := 2) hx hb dX6_run_95 (by decide) ?_
                refine k_X6_at hF hL0 hG hl (Nat.le_of_ble_eq_true rfl) (Nat.le_of_ble_eq_true rfl) h ⟨Nat.le_of_ble_eq_true rfl, Nat.le_of_ble_eq_true rfl⟩ (Nat.le_of_ble_eq_true rfl) dX6_run_96 (fun v20 H locs h hG => ?_)
                refine tw_rd hF hG (j := 6) (by decide) h dX6_run_99 (fun v21 h => ?_)
                refine lv_iconst (v := 3) hx hb dX6_run_100 (by decide) ?_
                obtain ⟨X4, h, hJ4⟩ := ob1_u h
                have J4 : ∀ (z22 : Int32), X4 = z22 → ∀ (H : Heap) (locs : List Loc) (ls : Array Slot), gJ D clX L0 A s.heap (twG dA b σ16 G0) sz H locs → lv_has ls 4 [(0, .ref b), (3, .int y19)] → W p l e R s m args below meth c H locs 0 0 Q (F0 m 109 ls [.int z22, .int y18]) := by
                  intro z22 e0 H locs ls hG hl
                  have h := hJ4 z22 e0
                  refine lv_iadd hx hb dX6_run_109 ?_
                  refine gb_nm h (fun x23 h => ?_)
                  refine lv_istore_n hx hb dX6_run_110 rfl hl (Nat.le_of_ble_eq_true rfl) (lv' := [(2, .int x23), (0, .ref b), (3, .int y19)]) rfl (fun ls hl => ?_)
                  refine gb_iinc (k' := 1) hx hb dX6_run_111 hl (k := 2) rfl (by decide) (Nat.le_of_ble_eq_true rfl) h (fun x24 ls h hl => ?_)
                  have hl : lv_has ls 4 [(3, .int x24), (2, .int x23), (0, .ref b)] := hl
                  refine lv_goto hx hb dX6_run_114 (tgt := 81) (by decide) ?_
                  exact ihL17 _ _ h _ _ _ hG (lv_sub hl [2, 1, 0] rfl)
                refine gb_icmp_ne hx hb dX6_run_101 (tgt := 108) (by decide) h (fun h => ?_) (fun h => ?_)
                · refine lv_iconst (v := 0) hx hb dX6_run_108 (by decide) ?_
                  exact J4 _ (Option.some.inj h).symm _ _ _ hG (lv_sub hl [0, 2] rfl)
                · refine lv_iconst (v := 1) hx hb dX6_run_104 (by decide) ?_
                  refine lv_goto hx hb dX6_run_105 (tgt := 109) (by decide) ?_
                  exact J4 _ (Option.some.inj h).symm _ _ _ hG (lv_sub hl [0, 2] rfl)
          exact LL17 _ _ _ h _ _ _ hG (lv_sub hl [2, 1, 0] rfl)
        have LL10 : ∀ (n : Nat) (y11 : Int32) (σ12 : TS), t_X6_run_L10 p0 n y11 σ12 = some X2 → ∀ (H : Heap) (locs : List Loc) (ls : Array Slot), gJ D clX L0 A s.heap (twG dA b σ12 G0) sz H locs → lv_has ls 4 [(0, .ref b), (1, .int p0), (2, .int y11)] → W p l e R s m args below meth c H locs 0 0 Q (F0 m 57 ls []) := by
          intro n
          induction n with
          | zero =>
            intro y11 σ12 h
            rw [t_X6_run_L10] at h
            cases h
          | succ n ihL10 =>
            intro y11 σ12 h H locs ls hG hl
            rw [t_X6_run_L10] at h
            refine lv_iload_n hx hb dX6_run_57 rfl (lv_at hl 2 rfl) ?_
            refine lv_iload_n hx hb dX6_run_58 rfl (lv_at hl 1 rfl) ?_
            refine gb_icmp_ge hx hb dX6_run_59 (tgt := 77) (by decide) h (fun h => ?_) (fun h => ?_)
            · exact J2 _ (Option.some.inj h).symm _ _ _ hG (lv_sub hl [0] rfl)
            · refine lv_aload_n hx hb dX6_run_62 rfl (lv_at hl 0 rfl) ?_
              refine lv_aload_n hx hb dX6_run_63 rfl (lv_at hl 0 rfl) ?_
              refine tw_getR hF hG 10 6 (by decide) q1843 rfl dX6_run_64 ?_
              refine k_X6_ticks hF hL0 hG hl (Nat.le_of_ble_eq_true rfl) (Nat.le_of_ble_eq_true rfl) (by decide) h ⟨Nat.le_of_ble_eq_true rfl, Nat.le_of_ble_eq_true rfl⟩ (Nat.le_of_ble_eq_true rfl) dX6_run_67 (fun v13 σ14 H locs h hG => ?_)
              refine lv_istore_n hx hb dX6_run_70 rfl hl (Nat.le_of_ble_eq_true rfl) (lv' := [(3, .int v13), (0, .ref b), (1, .int p0), (2, .int y11)]) rfl (fun ls hl => ?_)
              refine gb_iinc (k' := 1) hx hb dX6_run_71 hl (k := 3) rfl (by decide) (Nat.le_of_ble_eq_true rfl) h (fun x15 ls h hl => ?_)
              have hl : lv_has ls 4 [(2, .int x15), (3, .int v13), (0, .ref b), (1, .int p0)] := hl
              refine lv_goto hx hb dX6_run_74 (tgt := 57) (by decide) ?_
              exact ihL10 _ _ h _ _ _ hG (lv_sub hl [2, 3, 0] rfl)
        exact LL10 _ _ _ h _ _ _ hG (lv_sub hl [1, 2, 0] rfl)
      · refine lv_iconst (v := 0) hx hb dX6_run_49 (by decide) ?_
        have h := Option.some.inj h
        subst h
        exact g_iret hQ hG ⟨rfl, rfl, rfl⟩ (Nat.le_refl _) (Nat.le_refl _) dX6_run_50
    refine gb_icmp_gt hx hb dX6_run_34 (tgt := 41) (by decide) h (fun h => ?_) (fun h => ?_)
    · refine lv_iconst (v := 0) hx hb dX6_run_41 (by decide) ?_
      exact J1 _ (Option.some.inj h).symm _ _ _ hG hl
    · refine lv_iconst (v := 1) hx hb dX6_run_37 (by decide) ?_
      refine lv_goto hx hb dX6_run_38 (tgt := 42) (by decide) ?_
      exact J1 _ (Option.some.inj h).symm _ _ _ hG hl
/-! blackout -/
def t_X6_blackout (σ : TS) (p0 : Int32) : Option (Int32 × TS) :=
nm (T_sf σ 0 0) fun (σ1 : TS) =>
ob1 (t_X6_isIn (p0.toInt64) 1 50) fun (v2 : Int32) =>
ob2 (t_X6_may σ1 v2 1) fun (v3 : Int32) (σ4 : TS) =>
if v3 = 0 then (
some (0, σ4))
else (
ob1 (t_X6_keeps σ4) fun (σ5 : TS) =>
ob1 (t_X6_darkens σ5 6 p0) fun (σ6 : TS) =>
ob1 (T_rd σ6 6 1) fun (v7 : Int32) =>
some (v7, σ6))
set_option maxRecDepth 100000 in
theorem w_X6_blackout {l : Launch} {D : va_G} {dA : Nat → ClassId} {K : gKT} {L0 b sz : Nat} {G0 : GH} (hKo : gKo D clX (tyA dA) K) (hL0 : L0 ≤ b) (σ : TS) (p0 : Int32)  {out : Int32 × TS} (h : t_X6_blackout σ p0 = some out) : gMet l yX6_blackout (ws_ yX6_blackout cX6_blackout 2 (some .int)) D clX L0 K [.ref b, .int p0] (twG dA b σ G0) sz 2 45 0 0 (twRI dA b out.2 G0 sz out.1) := by
  refine gMet.of (own := RX6) hKo (by decide +kernel) (Nat.le_of_ble_eq_true rfl) rfl ?_
  intro p e R s m args below meth c A Q ls H hF hQ hin hG hl
  have hx := hF.1.1
  have hb := hF.1.2.1
  have hts := hF.1.2.2.2.2
  have hl : lv_has ls 2 [(0, .ref b), (1, .int p0)] := hl
  unfold t_X6_blackout at h
  refine lv_aload_n hx hb dX6_blackout_0 rfl (lv_at hl 0 rfl) ?_
  refine lv_iconst (v := 0) hx hb dX6_blackout_1 (by decide) ?_
  refine tw_putI hF hL0 hG 0 (by decide) q1833 rfl h dX6_blackout_2 (fun σ1 H locs h hG => ?_)
  refine lv_aload_n hx hb dX6_blackout_5 rfl (lv_at hl 0 rfl) ?_
  refine lv_iload_n hx hb dX6_blackout_6 rfl (lv_at hl 1 rfl) ?_
  refine lv_i2l hx hb dX6_blackout_7 rfl ?_
  refine lv_lconst (v := 1) hx hb dX6_blackout_8 (by decide) ?_
  refine lv_ldc2 (v := 50) hx hb hF.1.2.2.2.1 (hts _ q2264) dX6_blackout_9 ?_
  refine k_X6_isIn hF hL0 hG hl (Nat.le_of_ble_eq_true rfl) (Nat.le_of_ble_eq_true rfl) h ⟨Nat.le_of_ble_eq_true rfl, Nat.le_of_ble_eq_true rfl⟩ (Nat.le_of_ble_eq_true rfl) dX6_blackout_12 (fun v2 H locs h hG => ?_)
  refine lv_iconst (v := 1) hx hb dX6_blackout_15 (by decide) ?_
  refine k_X6_may hF hL0 hG hl (Nat.le_of_ble_eq_true rfl) (Nat.le_of_ble_eq_true rfl) h ⟨Nat.le_of_ble_eq_true rfl, Nat.le_of_ble_eq_true rfl⟩ (Nat.le_of_ble_eq_true rfl) dX6_blackout_16 (fun v3 σ4 H locs h hG => ?_)
  refine gb_if_ne hx hb dX6_blackout_19 (tgt := 24) (by decide) h (fun h => ?_) (fun h => ?_)
  · refine lv_aload_n hx hb dX6_blackout_24 rfl (lv_at hl 0 rfl) ?_
    refine k_X6_keeps hF hL0 hG hl (Nat.le_of_ble_eq_true rfl) (Nat.le_of_ble_eq_true rfl) h ⟨Nat.le_of_ble_eq_true rfl, Nat.le_of_ble_eq_true rfl⟩ (Nat.le_of_ble_eq_true rfl) dX6_blackout_25 (fun σ5 H locs h hG => ?_)
    refine lv_aload_n hx hb dX6_blackout_28 rfl (lv_at hl 0 rfl) ?_
    refine lv_aload_n hx hb dX6_blackout_29 rfl (lv_at hl 0 rfl) ?_
    refine tw_getR hF hG 10 6 (by decide) q1843 rfl dX6_blackout_30 ?_
    refine lv_iload_n hx hb dX6_blackout_33 rfl (lv_at hl 1 rfl) ?_
    refine k_X6_darkens hF hL0 hG hl (Nat.le_of_ble_eq_true rfl) (Nat.le_of_ble_eq_true rfl) (by decide) h ⟨Nat.le_of_ble_eq_true rfl, Nat.le_of_ble_eq_true rfl⟩ (Nat.le_of_ble_eq_true rfl) dX6_blackout_34 (fun σ6 H locs h hG => ?_)
    refine lv_aload_n hx hb dX6_blackout_37 rfl (lv_at hl 0 rfl) ?_
    refine tw_getR hF hG 10 6 (by decide) q1843 rfl dX6_blackout_38 ?_
    refine lv_iconst (v := 1) hx hb dX6_blackout_41 (by decide) ?_
    refine tw_rd hF hG (j := 6) (by decide) h dX6_blackout_42 (fun v7 h => ?_)
    have h := Option.some.inj h
    subst h
    exact g_iret hQ hG ⟨rfl, rfl, rfl⟩ (Nat.le_refl _) (Nat.le_refl _) dX6_blackout_43
  · refine lv_iconst (v := 0) hx hb dX6_blackout_22 (by decide) ?_
    have h := Option.some.inj h
    subst h
    exact g_iret hQ hG ⟨rfl, rfl, rfl⟩ (Nat.le_refl _) (Nat.le_refl _) dX6_blackout_23
/-! want -/
def t_X6_want (σ : TS) (p0 : Int32) (p1 : Int32) : Option (Int32 × TS) :=
nm (T_sf σ 0 0) fun (σ1 : TS) =>
ob1 (t_X6_isOutlet σ1 p0) fun (v2 : Int32) =>
ob2 (t_X6_may σ1 v2 1) fun (v3 : Int32) (σ4 : TS) =>
if v3 = 0 then (
some (0, σ4))
else (
ob1 (t_X6_keeps σ4) fun (σ5 : TS) =>
ob1 (t_X6_at p0 1) fun (v6 : Int32) =>
ob1 (T_rd σ5 6 v6) fun (v7 : Int32) =>
ob1 (
if v7 = 1 then (
some (1 : Int32))
else (
some (0 : Int32))) fun (z8 : Int32) =>
if z8 = p1 then (
ob1 (retZ z8) fun (r25 : Int32) =>
some (r25, σ5))
else (
ob1 (t_X6_at p0 1) fun (v9 : Int32) =>
ob1 (
if p1 = 0 then (
some (0 : Int32))
else (
some (1 : Int32))) fun (z10 : Int32) =>
ob1 (T_wr σ5 6 v9 z10) fun (σ11 : TS) =>
ob1 (t_X6_at p0 2) fun (v12 : Int32) =>
ob1 (T_rd σ11 6 v12) fun (v13 : Int32) =>
ob1 (
if v13 < 2 then (
some σ11)
else (
ob1 (t_X6_at p0 7) fun (v14 : Int32) =>
ob1 (T_wr σ11 6 v14 1) fun (σ15 : TS) =>
some σ15)) fun (σ16 : TS) =>
ob1 (t_X6_at p0 2) fun (v17 : Int32) =>
ob1 (
if p1 = 0 then (
some (0 : Int32))
else (
some (1 : Int32))) fun (z18 : Int32) =>
ob1 (T_wr σ16 6 v17 z18) fun (σ19 : TS) =>
ob1 (t_X6_at p0 3) fun (v20 : Int32) =>
ob1 (T_wr σ19 6 v20 0) fun (σ21 : TS) =>
ob1 (t_X6_at p0 6) fun (v22 : Int32) =>
ob1 (T_wr σ21 6 v22 (-1)) fun (σ23 : TS) =>
ob1 (retZ z8) fun (r24 : Int32) =>
some (r24, σ23)))
set_option maxRecDepth 100000 in
theorem w_X6_want {l : Launch} {D : va_G} {dA : Nat → ClassId} {K : gKT} {L0 b sz : Nat} {G0 : GH} (hKo : gKo D clX (tyA dA) K) (hL0 : L0 ≤ b) (σ : TS) (p0 : Int32) (p1 : Int32)  {out : Int32 × TS} (h : t_X6_want σ p0 p1 = some out) : gMet l yX6_want (ws_ yX6_want cX6_want 4 (some .boolean)) D clX L0 K [.ref b, .int p0, .int p1] (twG dA b σ G0) sz 2 46 0 0 (twRI dA b out.2 G0 sz out.1) := by
  refine gMet.of (own := RX6) hKo (by decide +kernel) (Nat.le_of_ble_eq_true rfl) rfl ?_
  intro p e R s m args below meth c A Q ls H hF hQ hin hG hl
  have hx := hF.1.1
  have hb := hF.1.2.1
  have hts := hF.1.2.2.2.2
  have hl : lv_has ls 4 [(0, .ref b), (1, .int p0), (2, .int p1)] := hl
  unfold t_X6_want at h
  refine lv_aload_n hx hb dX6_want_0 rfl (lv_at hl 0 rfl) ?_
  refine lv_iconst (v := 0) hx hb dX6_want_1 (by decide) ?_
  refine tw_putI hF hL0 hG 0 (by decide) q1833 rfl h dX6_want_2 (fun σ1 H locs h hG => ?_)
  refine lv_aload_n hx hb dX6_want_5 rfl (lv_at hl 0 rfl) ?_
  refine lv_aload_n hx hb dX6_want_6 rfl (lv_at hl 0 rfl) ?_
  refine lv_iload_n hx hb dX6_want_7 rfl (lv_at hl 1 rfl) ?_
  refine k_X6_isOutlet hF hL0 hG hl (Nat.le_of_ble_eq_true rfl) (Nat.le_of_ble_eq_true rfl) h ⟨Nat.le_of_ble_eq_true rfl, Nat.le_of_ble_eq_true rfl⟩ (Nat.le_of_ble_eq_true rfl) dX6_want_8 (fun v2 H locs h hG => ?_)
  refine lv_iconst (v := 1) hx hb dX6_want_11 (by decide) ?_
  refine k_X6_may hF hL0 hG hl (Nat.le_of_ble_eq_true rfl) (Nat.le_of_ble_eq_true rfl) h ⟨Nat.le_of_ble_eq_true rfl, Nat.le_of_ble_eq_true rfl⟩ (Nat.le_of_ble_eq_true rfl) dX6_want_12 (fun v3 σ4 H locs h hG => ?_)
  refine gb_if_ne hx hb dX6_want_15 (tgt := 20) (by decide) h (fun h => ?_) (fun h => ?_)
  · refine lv_aload_n hx hb dX6_want_20 rfl (lv_at hl 0 rfl) ?_
    refine k_X6_keeps hF hL0 hG hl (Nat.le_of_ble_eq_true rfl) (Nat.le_of_ble_eq_true rfl) h ⟨Nat.le_of_ble_eq_true rfl, Nat.le_of_ble_eq_true rfl⟩ (Nat.le_of_ble_eq_true rfl) dX6_want_21 (fun σ5 H locs h hG => ?_)
    refine lv_aload_n hx hb dX6_want_24 rfl (lv_at hl 0 rfl) ?_
    refine tw_getR hF hG 10 6 (by decide) q1843 rfl dX6_want_25 ?_
    refine lv_iload_n hx hb dX6_want_28 rfl (lv_at hl 1 rfl) ?_
    refine lv_iconst (v := 1) hx hb dX6_want_29 (by decide) ?_
    refine k_X6_at hF hL0 hG hl (Nat.le_of_ble_eq_true rfl) (Nat.le_of_ble_eq_true rfl) h ⟨Nat.le_of_ble_eq_true rfl, Nat.le_of_ble_eq_true rfl⟩ (Nat.le_of_ble_eq_true rfl) dX6_want_30 (fun v6 H locs h hG => ?_)
    refine tw_rd hF hG (j := 6) (by decide) h dX6_want_33 (fun v7 h => ?_)
    refine lv_iconst (v := 1) hx hb dX6_want_34 (by decide) ?_
    obtain ⟨X1, h, hJ1⟩ := ob1_u h
    have J1 : ∀ (z8 : Int32), X1 = z8 → ∀ (H : Heap) (locs : List Loc) (ls : Array Slot), gJ D clX L0 A s.heap (twG dA b σ5 G0) sz H locs → lv_has ls 4 [(0, .ref b), (1, .int p0), (2, .int p1)] → W p l e R s m args below meth c H locs 0 0 Q (F0 m 43 ls [.int z8]) := by
      intro z8 e0 H locs ls hG hl
      have h := hJ1 z8 e0
      refine lv_istore_n hx hb dX6_want_43 rfl hl (Nat.le_of_ble_eq_true rfl) (lv' := [(3, .int z8), (0, .ref b), (1, .int p0), (2, .int p1)]) rfl (fun ls hl => ?_)
      refine lv_iload_n hx hb dX6_want_44 rfl (lv_at hl 0 rfl) ?_
      refine lv_iload_n hx hb dX6_want_45 rfl (lv_at hl 3 rfl) ?_
      refine gb_icmp_ne hx hb dX6_want_46 (tgt := 51) (by decide) h (fun h => ?_) (fun h => ?_)
      · refine lv_aload_n hx hb dX6_want_51 rfl (lv_at hl 1 rfl) ?_
        refine tw_getR hF hG 10 6 (by decide) q1843 rfl dX6_want_52 ?_
        refine lv_iload_n hx hb dX6_want_55 rfl (lv_at hl 2 rfl) ?_
        refine lv_iconst (v := 1) hx hb dX6_want_56 (by decide) ?_
        refine k_X6_at hF hL0 hG hl (Nat.le_of_ble_eq_true rfl) (Nat.le_of_ble_eq_true rfl) h ⟨Nat.le_of_ble_eq_true rfl, Nat.le_of_ble_eq_true rfl⟩ (Nat.le_of_ble_eq_true rfl) dX6_want_57 (fun v9 H locs h hG => ?_)
        refine lv_iload_n hx hb dX6_want_60 rfl (lv_at hl 3 rfl) ?_
        obtain ⟨X2, h, hJ2⟩ := ob1_u h
        have J2 : ∀ (z10 : Int32), X2 = z10 → ∀ (H : Heap) (locs : List Loc) (ls : Array Slot), gJ D clX L0 A s.heap (twG dA b σ5 G0) sz H locs → lv_has ls 4 [(0, .ref b), (1, .int p0), (2, .int p1), (3, .int z8)] → W p l e R s m args below meth c H locs 0 0 Q (F0 m 69 ls [.int z10, .int v9, .ref (b + 6)]) := by
          intro z10 e0 H locs ls hG hl
          have h := hJ2 z10 e0
          refine tw_wr hF hL0 hG (j := 6) (by decide) h dX6_want_69 (fun σ11 H locs h hG => ?_)
          refine lv_aload_n hx hb dX6_want_70 rfl (lv_at hl 0 rfl) ?_
          refine tw_getR hF hG 10 6 (by decide) q1843 rfl dX6_want_71 ?_
          refine lv_iload_n hx hb dX6_want_74 rfl (lv_at hl 1 rfl) ?_
          refine lv_iconst (v := 2) hx hb dX6_want_75 (by decide) ?_
          refine k_X6_at hF hL0 hG hl (Nat.le_of_ble_eq_true rfl) (Nat.le_of_ble_eq_true rfl) h ⟨Nat.le_of_ble_eq_true rfl, Nat.le_of_ble_eq_true rfl⟩ (Nat.le_of_ble_eq_true rfl) dX6_want_76 (fun v12 H locs h hG => ?_)
          refine tw_rd hF hG (j := 6) (by decide) h dX6_want_79 (fun v13 h => ?_)
          refine lv_iconst (v := 2) hx hb dX6_want_80 (by decide) ?_
          obtain ⟨X3, h, hJ3⟩ := ob1_u h
          have J3 : ∀ (σ16 : TS), X3 = σ16 → ∀ (H : Heap) (locs : List Loc) (ls : Array Slot), gJ D clX L0 A s.heap (twG dA b σ16 G0) sz H locs → lv_has ls 4 [(0, .ref b), (1, .int p0), (2, .int p1), (3, .int z8)] → W p l e R s m args below meth c H locs 0 0 Q (F0 m 96 ls []) := by
            intro σ16 e0 H locs ls hG hl
            have h := hJ3 σ16 e0
            refine lv_aload_n hx hb dX6_want_96 rfl (lv_at hl 0 rfl) ?_
            refine tw_getR hF hG 10 6 (by decide) q1843 rfl dX6_want_97 ?_
            refine lv_iload_n hx hb dX6_want_100 rfl (lv_at hl 1 rfl) ?_
            refine lv_iconst (v := 2) hx hb dX6_want_101 (by decide) ?_
            refine k_X6_at hF hL0 hG hl (Nat.le_of_ble_eq_true rfl) (Nat.le_of_ble_eq_true rfl) h ⟨Nat.le_of_ble_eq_true rfl, Nat.le_of_ble_eq_true rfl⟩ (Nat.le_of_ble_eq_true rfl) dX6_want_102 (fun v17 H locs h hG => ?_)
            refine lv_iload_n hx hb dX6_want_105 rfl (lv_at hl 2 rfl) ?_
            obtain ⟨X4, h, hJ4⟩ := ob1_u h
            have J4 : ∀ (z18 : Int32), X4 = z18 → ∀ (H : Heap) (locs : List Loc) (ls : Array Slot), gJ D clX L0 A s.heap (twG dA b σ16 G0) sz H locs → lv_has ls 4 [(0, .ref b), (1, .int p0), (3, .int z8)] → W p l e R s m args below meth c H locs 0 0 Q (F0 m 114 ls [.int z18, .int v17, .ref (b + 6)]) := by
              intro z18 e0 H locs ls hG hl
              have h := hJ4 z18 e0
              refine tw_wr hF hL0 hG (j := 6) (by decide) h dX6_want_114 (fun σ19 H locs h hG => ?_)
              refine lv_aload_n hx hb dX6_want_115 rfl (lv_at hl 0 rfl) ?_
              refine tw_getR hF hG 10 6 (by decide) q1843 rfl dX6_want_116 ?_
              refine lv_iload_n hx hb dX6_want_119 rfl (lv_at hl 1 rfl) ?_
              refine lv_iconst (v := 3) hx hb dX6_want_120 (by decide) ?_
              refine k_X6_at hF hL0 hG hl (Nat.le_of_ble_eq_true rfl) (Nat.le_of_ble_eq_true rfl) h ⟨Nat.le_of_ble_eq_true rfl, Nat.le_of_ble_eq_true rfl⟩ (Nat.le_of_ble_eq_true rfl) dX6_want_121 (fun v20 H locs h hG => ?_)
              refine lv_iconst (v := 0) hx hb dX6_want_124 (by decide) ?_
              refine tw_wr hF hL0 hG (j := 6) (by decide) h dX6_want_125 (fun σ21 H locs h hG => ?_)
              refine lv_aload_n hx hb dX6_want_126 rfl (lv_at hl 0 rfl) ?_
              refine tw_getR hF hG 10 6 (by decide) q1843 rfl dX6_want_127 ?_
              refine lv_iload_n hx hb dX6_want_130 rfl (lv_at hl 1 rfl) ?_
              refine lv_bipush (v := 6) hx hb dX6_want_131 (by decide) ?_
              refine k_X6_at hF hL0 hG hl (Nat.le_of_ble_eq_true rfl) (Nat.le_of_ble_eq_true rfl) h ⟨Nat.le_of_ble_eq_true rfl, Nat.le_of_ble_eq_true rfl⟩ (Nat.le_of_ble_eq_true rfl) dX6_want_133 (fun v22 H locs h hG => ?_)
              refine lv_iconst (v := (-1)) hx hb dX6_want_136 (by decide) ?_
              refine tw_wr hF hL0 hG (j := 6) (by decide) h dX6_want_137 (fun σ23 H locs h hG => ?_)
              refine lv_iload_n hx hb dX6_want_138 rfl (lv_at hl 2 rfl) ?_
              obtain ⟨r24, hz, h⟩ := ob1_e h
              obtain ⟨ez, hz⟩ := retZ_e hz
              have h := Option.some.inj h
              subst h
              rw [← ez] at hQ
              exact g_zret hQ hG hz ⟨rfl, rfl, rfl⟩ (Nat.le_refl _) (Nat.le_refl _) dX6_want_139
            refine gb_if_eq hx hb dX6_want_106 (tgt := 113) (by decide) h (fun h => ?_) (fun h => ?_)
            · refine lv_iconst (v := 0) hx hb dX6_want_113 (by decide) ?_
              exact J4 _ (Option.some.inj h).symm _ _ _ hG (lv_sub hl [0, 1, 3] rfl)
            · refine lv_iconst (v := 1) hx hb dX6_want_109 (by decide) ?_
              refine lv_goto hx hb dX6_want_110 (tgt := 114) (by decide) ?_
              exact J4 _ (Option.some.inj h).symm _ _ _ hG (lv_sub hl [0, 1, 3] rfl)
          refine gb_icmp_lt hx hb dX6_want_81 (tgt := 96) (by decide) h (fun h => ?_) (fun h => ?_)
          · exact J3 _ (Option.some.inj h).symm _ _ _ hG hl
          · refine lv_aload_n hx hb dX6_want_84 rfl (lv_at hl 0 rfl) ?_
            refine tw_getR hF hG 10 6 (by decide) q1843 rfl dX6_want_85 ?_
            refine lv_iload_n hx hb dX6_want_88 rfl (lv_at hl 1 rfl) ?_
            refine lv_bipush (v := 7) hx hb dX6_want_89 (by decide) ?_
            refine k_X6_at hF hL0 hG hl (Nat.le_of_ble_eq_true rfl) (Nat.le_of_ble_eq_true rfl) h ⟨Nat.le_of_ble_eq_true rfl, Nat.le_of_ble_eq_true rfl⟩ (Nat.le_of_ble_eq_true rfl) dX6_want_91 (fun v14 H locs h hG => ?_)
            refine lv_iconst (v := 1) hx hb dX6_want_94 (by decide) ?_
            refine tw_wr hF hL0 hG (j := 6) (by decide) h dX6_want_95 (fun σ15 H locs h hG => ?_)
            exact J3 _ (Option.some.inj h).symm _ _ _ hG hl
        refine gb_if_eq hx hb dX6_want_61 (tgt := 68) (by decide) h (fun h => ?_) (fun h => ?_)
        · refine lv_iconst (v := 0) hx hb dX6_want_68 (by decide) ?_
          exact J2 _ (Option.some.inj h).symm _ _ _ hG (lv_sub hl [1, 2, 3, 0] rfl)
        · refine lv_iconst (v := 1) hx hb dX6_want_64 (by decide) ?_
          refine lv_goto hx hb dX6_want_65 (tgt := 69) (by decide) ?_
          exact J2 _ (Option.some.inj h).symm _ _ _ hG (lv_sub hl [1, 2, 3, 0] rfl)
      · refine lv_iload_n hx hb dX6_want_49 rfl (lv_at hl 0 rfl) ?_
        obtain ⟨r25, hz, h⟩ := ob1_e h
        obtain ⟨ez, hz⟩ := retZ_e hz
        have h := Option.some.inj h
        subst h
        rw [← ez] at hQ
        exact g_zret hQ hG hz ⟨rfl, rfl, rfl⟩ (Nat.le_refl _) (Nat.le_refl _) dX6_want_50
    refine gb_icmp_ne hx hb dX6_want_35 (tgt := 42) (by decide) h (fun h => ?_) (fun h => ?_)
    · refine lv_iconst (v := 0) hx hb dX6_want_42 (by decide) ?_
      exact J1 _ (Option.some.inj h).symm _ _ _ hG hl
    · refine lv_iconst (v := 1) hx hb dX6_want_38 (by decide) ?_
      refine lv_goto hx hb dX6_want_39 (tgt := 43) (by decide) ?_
      exact J1 _ (Option.some.inj h).symm _ _ _ hG hl
  · refine lv_iconst (v := 0) hx hb dX6_want_18 (by decide) ?_
    have h := Option.some.inj h
    subst h
    exact g_zret hQ hG (by decide) ⟨rfl, rfl, rfl⟩ (Nat.le_refl _) (Nat.le_refl _) dX6_want_19
/-! setFuse -/
def t_X6_setFuse (σ : TS) (p0 : Int32) : Option (Int32 × TS) :=
nm (T_sf σ 0 0) fun (σ1 : TS) =>
ob1 (t_X6_isIn (p0.toInt64) 1 9999) fun (v2 : Int32) =>
ob2 (t_X6_may σ1 v2 1) fun (v3 : Int32) (σ4 : TS) =>
if v3 = 0 then (
some (0, σ4))
else (
ob1 (t_X6_keeps σ4) fun (σ5 : TS) =>
ob1 (T_rd σ5 6 6) fun (v6 : Int32) =>
ob1 (T_wr σ5 6 6 p0) fun (σ7 : TS) =>
some (v6, σ7))
set_option maxRecDepth 100000 in
theorem w_X6_setFuse {l : Launch} {D : va_G} {dA : Nat → ClassId} {K : gKT} {L0 b sz : Nat} {G0 : GH} (hKo : gKo D clX (tyA dA) K) (hL0 : L0 ≤ b) (σ : TS) (p0 : Int32)  {out : Int32 × TS} (h : t_X6_setFuse σ p0 = some out) : gMet l yX6_setFuse (ws_ yX6_setFuse cX6_setFuse 3 (some .int)) D clX L0 K [.ref b, .int p0] (twG dA b σ G0) sz 1 25 0 0 (twRI dA b out.2 G0 sz out.1) := by
  refine gMet.of (own := RX6) hKo (by decide +kernel) (Nat.le_of_ble_eq_true rfl) rfl ?_
  intro p e R s m args below meth c A Q ls H hF hQ hin hG hl
  have hx := hF.1.1
  have hb := hF.1.2.1
  have hts := hF.1.2.2.2.2
  have hl : lv_has ls 3 [(0, .ref b), (1, .int p0)] := hl
  unfold t_X6_setFuse at h
  refine lv_aload_n hx hb dX6_setFuse_0 rfl (lv_at hl 0 rfl) ?_
  refine lv_iconst (v := 0) hx hb dX6_setFuse_1 (by decide) ?_
  refine tw_putI hF hL0 hG 0 (by decide) q1833 rfl h dX6_setFuse_2 (fun σ1 H locs h hG => ?_)
  refine lv_aload_n hx hb dX6_setFuse_5 rfl (lv_at hl 0 rfl) ?_
  refine lv_iload_n hx hb dX6_setFuse_6 rfl (lv_at hl 1 rfl) ?_
  refine lv_i2l hx hb dX6_setFuse_7 rfl ?_
  refine lv_lconst (v := 1) hx hb dX6_setFuse_8 (by decide) ?_
  refine lv_ldc2 (v := 9999) hx hb hF.1.2.2.2.1 (hts _ q2245) dX6_setFuse_9 ?_
  refine k_X6_isIn hF hL0 hG hl (Nat.le_of_ble_eq_true rfl) (Nat.le_of_ble_eq_true rfl) h ⟨Nat.le_of_ble_eq_true rfl, Nat.le_of_ble_eq_true rfl⟩ (Nat.le_of_ble_eq_true rfl) dX6_setFuse_12 (fun v2 H locs h hG => ?_)
  refine lv_iconst (v := 1) hx hb dX6_setFuse_15 (by decide) ?_
  refine k_X6_may hF hL0 hG hl (Nat.le_of_ble_eq_true rfl) (Nat.le_of_ble_eq_true rfl) h ⟨Nat.le_of_ble_eq_true rfl, Nat.le_of_ble_eq_true rfl⟩ (Nat.le_of_ble_eq_true rfl) dX6_setFuse_16 (fun v3 σ4 H locs h hG => ?_)
  refine gb_if_ne hx hb dX6_setFuse_19 (tgt := 24) (by decide) h (fun h => ?_) (fun h => ?_)
  · refine lv_aload_n hx hb dX6_setFuse_24 rfl (lv_at hl 0 rfl) ?_
    refine k_X6_keeps hF hL0 hG hl (Nat.le_of_ble_eq_true rfl) (Nat.le_of_ble_eq_true rfl) h ⟨Nat.le_of_ble_eq_true rfl, Nat.le_of_ble_eq_true rfl⟩ (Nat.le_of_ble_eq_true rfl) dX6_setFuse_25 (fun σ5 H locs h hG => ?_)
    refine lv_aload_n hx hb dX6_setFuse_28 rfl (lv_at hl 0 rfl) ?_
    refine tw_getR hF hG 10 6 (by decide) q1843 rfl dX6_setFuse_29 ?_
    refine lv_bipush (v := 6) hx hb dX6_setFuse_32 (by decide) ?_
    refine tw_rd hF hG (j := 6) (by decide) h dX6_setFuse_34 (fun v6 h => ?_)
    refine lv_istore_n hx hb dX6_setFuse_35 rfl hl (Nat.le_of_ble_eq_true rfl) (lv' := [(2, .int v6), (0, .ref b), (1, .int p0)]) rfl (fun ls hl => ?_)
    refine lv_aload_n hx hb dX6_setFuse_36 rfl (lv_at hl 1 rfl) ?_
    refine tw_getR hF hG 10 6 (by decide) q1843 rfl dX6_setFuse_37 ?_
    refine lv_bipush (v := 6) hx hb dX6_setFuse_40 (by decide) ?_
    refine lv_iload_n hx hb dX6_setFuse_42 rfl (lv_at hl 2 rfl) ?_
    refine tw_wr hF hL0 hG (j := 6) (by decide) h dX6_setFuse_43 (fun σ7 H locs h hG => ?_)
    refine lv_iload_n hx hb dX6_setFuse_44 rfl (lv_at hl 0 rfl) ?_
    have h := Option.some.inj h
    subst h
    exact g_iret hQ hG ⟨rfl, rfl, rfl⟩ (Nat.le_refl _) (Nat.le_refl _) dX6_setFuse_45
  · refine lv_iconst (v := 0) hx hb dX6_setFuse_22 (by decide) ?_
    have h := Option.some.inj h
    subst h
    exact g_iret hQ hG ⟨rfl, rfl, rfl⟩ (Nat.le_refl _) (Nat.le_refl _) dX6_setFuse_23
/-! setPriority -/
def t_X6_setPriority (σ : TS) (p0 : Int32) (p1 : Int32) : Option (Int32 × TS) :=
nm (T_sf σ 0 0) fun (σ1 : TS) =>
ob1 (t_X6_isOutlet σ1 p0) fun (v2 : Int32) =>
ob2 (t_X6_may σ1 v2 1) fun (v3 : Int32) (σ4 : TS) =>
if v3 = 0 then (
some (0, σ4))
else (
ob1 (t_X6_isIn (p1.toInt64) 0 9) fun (v5 : Int32) =>
ob2 (t_X6_may σ4 v5 2) fun (v6 : Int32) (σ7 : TS) =>
if v6 = 0 then (
some (0, σ7))
else (
ob1 (t_X6_keeps σ7) fun (σ8 : TS) =>
ob1 (t_X6_at p0 0) fun (v9 : Int32) =>
ob1 (T_rd σ8 6 v9) fun (v10 : Int32) =>
ob1 (t_X6_at p0 0) fun (v11 : Int32) =>
ob1 (T_wr σ8 6 v11 p1) fun (σ12 : TS) =>
some (v10, σ12)))
set_option maxRecDepth 100000 in
theorem w_X6_setPriority {l : Launch} {D : va_G} {dA : Nat → ClassId} {K : gKT} {L0 b sz : Nat} {G0 : GH} (hKo : gKo D clX (tyA dA) K) (hL0 : L0 ≤ b) (σ : TS) (p0 : Int32) (p1 : Int32)  {out : Int32 × TS} (h : t_X6_setPriority σ p0 p1 = some out) : gMet l yX6_setPriority (ws_ yX6_setPriority cX6_setPriority 4 (some .int)) D clX L0 K [.ref b, .int p0, .int p1] (twG dA b σ G0) sz 2 46 0 0 (twRI dA b out.2 G0 sz out.1) := by
  refine gMet.of (own := RX6) hKo (by decide +kernel) (Nat.le_of_ble_eq_true rfl) rfl ?_
  intro p e R s m args below meth c A Q ls H hF hQ hin hG hl
  have hx := hF.1.1
  have hb := hF.1.2.1
  have hts := hF.1.2.2.2.2
  have hl : lv_has ls 4 [(0, .ref b), (1, .int p0), (2, .int p1)] := hl
  unfold t_X6_setPriority at h
  refine lv_aload_n hx hb dX6_setPriority_0 rfl (lv_at hl 0 rfl) ?_
  refine lv_iconst (v := 0) hx hb dX6_setPriority_1 (by decide) ?_
  refine tw_putI hF hL0 hG 0 (by decide) q1833 rfl h dX6_setPriority_2 (fun σ1 H locs h hG => ?_)
  refine lv_aload_n hx hb dX6_setPriority_5 rfl (lv_at hl 0 rfl) ?_
  refine lv_aload_n hx hb dX6_setPriority_6 rfl (lv_at hl 0 rfl) ?_
  refine lv_iload_n hx hb dX6_setPriority_7 rfl (lv_at hl 1 rfl) ?_
  refine k_X6_isOutlet hF hL0 hG hl (Nat.le_of_ble_eq_true rfl) (Nat.le_of_ble_eq_true rfl) h ⟨Nat.le_of_ble_eq_true rfl, Nat.le_of_ble_eq_true rfl⟩ (Nat.le_of_ble_eq_true rfl) dX6_setPriority_8 (fun v2 H locs h hG => ?_)
  refine lv_iconst (v := 1) hx hb dX6_setPriority_11 (by decide) ?_
  refine k_X6_may hF hL0 hG hl (Nat.le_of_ble_eq_true rfl) (Nat.le_of_ble_eq_true rfl) h ⟨Nat.le_of_ble_eq_true rfl, Nat.le_of_ble_eq_true rfl⟩ (Nat.le_of_ble_eq_true rfl) dX6_setPriority_12 (fun v3 σ4 H locs h hG => ?_)
  refine gb_if_eq hx hb dX6_setPriority_15 (tgt := 35) (by decide) h (fun h => ?_) (fun h => ?_)
  · refine lv_iconst (v := 0) hx hb dX6_setPriority_35 (by decide) ?_
    have h := Option.some.inj h
    subst h
    exact g_iret hQ hG ⟨rfl, rfl, rfl⟩ (Nat.le_refl _) (Nat.le_refl _) dX6_setPriority_36
  · refine lv_aload_n hx hb dX6_setPriority_18 rfl (lv_at hl 0 rfl) ?_
    refine lv_iload_n hx hb dX6_setPriority_19 rfl (lv_at hl 2 rfl) ?_
    refine lv_i2l hx hb dX6_setPriority_20 rfl ?_
    refine lv_lconst (v := 0) hx hb dX6_setPriority_21 (by decide) ?_
    refine lv_ldc2 (v := 9) hx hb hF.1.2.2.2.1 (hts _ q2082) dX6_setPriority_22 ?_
    refine k_X6_isIn hF hL0 hG hl (Nat.le_of_ble_eq_true rfl) (Nat.le_of_ble_eq_true rfl) h ⟨Nat.le_of_ble_eq_true rfl, Nat.le_of_ble_eq_true rfl⟩ (Nat.le_of_ble_eq_true rfl) dX6_setPriority_25 (fun v5 H locs h hG => ?_)
    refine lv_iconst (v := 2) hx hb dX6_setPriority_28 (by decide) ?_
    refine k_X6_may hF hL0 hG hl (Nat.le_of_ble_eq_true rfl) (Nat.le_of_ble_eq_true rfl) h ⟨Nat.le_of_ble_eq_true rfl, Nat.le_of_ble_eq_true rfl⟩ (Nat.le_of_ble_eq_true rfl) dX6_setPriority_29 (fun v6 σ7 H locs h hG => ?_)
    refine gb_if_ne hx hb dX6_setPriority_32 (tgt := 37) (by decide) h (fun h => ?_) (fun h => ?_)
    · refine lv_aload_n hx hb dX6_setPriority_37 rfl (lv_at hl 0 rfl) ?_
      refine k_X6_keeps hF hL0 hG hl (Nat.le_of_ble_eq_true rfl) (Nat.le_of_ble_eq_true rfl) h ⟨Nat.le_of_ble_eq_true rfl, Nat.le_of_ble_eq_true rfl⟩ (Nat.le_of_ble_eq_true rfl) dX6_setPriority_38 (fun σ8 H locs h hG => ?_)
      refine lv_aload_n hx hb dX6_setPriority_41 rfl (lv_at hl 0 rfl) ?_
      refine tw_getR hF hG 10 6 (by decide) q1843 rfl dX6_setPriority_42 ?_
      refine lv_iload_n hx hb dX6_setPriority_45 rfl (lv_at hl 1 rfl) ?_
      refine lv_iconst (v := 0) hx hb dX6_setPriority_46 (by decide) ?_
      refine k_X6_at hF hL0 hG hl (Nat.le_of_ble_eq_true rfl) (Nat.le_of_ble_eq_true rfl) h ⟨Nat.le_of_ble_eq_true rfl, Nat.le_of_ble_eq_true rfl⟩ (Nat.le_of_ble_eq_true rfl) dX6_setPriority_47 (fun v9 H locs h hG => ?_)
      refine tw_rd hF hG (j := 6) (by decide) h dX6_setPriority_50 (fun v10 h => ?_)
      refine lv_istore_n hx hb dX6_setPriority_51 rfl hl (Nat.le_of_ble_eq_true rfl) (lv' := [(3, .int v10), (0, .ref b), (1, .int p0), (2, .int p1)]) rfl (fun ls hl => ?_)
      refine lv_aload_n hx hb dX6_setPriority_52 rfl (lv_at hl 1 rfl) ?_
      refine tw_getR hF hG 10 6 (by decide) q1843 rfl dX6_setPriority_53 ?_
      refine lv_iload_n hx hb dX6_setPriority_56 rfl (lv_at hl 2 rfl) ?_
      refine lv_iconst (v := 0) hx hb dX6_setPriority_57 (by decide) ?_
      refine k_X6_at hF hL0 hG hl (Nat.le_of_ble_eq_true rfl) (Nat.le_of_ble_eq_true rfl) h ⟨Nat.le_of_ble_eq_true rfl, Nat.le_of_ble_eq_true rfl⟩ (Nat.le_of_ble_eq_true rfl) dX6_setPriority_58 (fun v11 H locs h hG => ?_)
      refine lv_iload_n hx hb dX6_setPriority_61 rfl (lv_at hl 3 rfl) ?_
      refine tw_wr hF hL0 hG (j := 6) (by decide) h dX6_setPriority_62 (fun σ12 H locs h hG => ?_)
      refine lv_iload_n hx hb dX6_setPriority_63 rfl (lv_at hl 0 rfl) ?_
      have h := Option.some.inj h
      subst h
      exact g_iret hQ hG ⟨rfl, rfl, rfl⟩ (Nat.le_refl _) (Nat.le_refl _) dX6_setPriority_64
    · refine lv_iconst (v := 0) hx hb dX6_setPriority_35 (by decide) ?_
      have h := Option.some.inj h
      subst h
      exact g_iret hQ hG ⟨rfl, rfl, rfl⟩ (Nat.le_refl _) (Nat.le_refl _) dX6_setPriority_36
/-! forget -/
def t_X6_forget (σ : TS) : Option (Int32 × TS) :=
nm (T_sf σ 0 0) fun (σ1 : TS) =>
ob1 (t_X6_keeps σ1) fun (σ2 : TS) =>
ob2 (t_X6_forgets σ2 6) fun (v3 : Int32) (σ4 : TS) =>
some (v3, σ4)
set_option maxRecDepth 100000 in
theorem w_X6_forget {l : Launch} {D : va_G} {dA : Nat → ClassId} {K : gKT} {L0 b sz : Nat} {G0 : GH} (hKo : gKo D clX (tyA dA) K) (hL0 : L0 ≤ b) (σ : TS)  {out : Int32 × TS} (h : t_X6_forget σ = some out) : gMet l yX6_forget (ws_ yX6_forget cX6_forget 1 (some .int)) D clX L0 K [.ref b] (twG dA b σ G0) sz 2 43 0 0 (twRI dA b out.2 G0 sz out.1) := by
  refine gMet.of (own := RX6) hKo (by decide +kernel) (Nat.le_of_ble_eq_true rfl) rfl ?_
  intro p e R s m args below meth c A Q ls H hF hQ hin hG hl
  have hx := hF.1.1
  have hb := hF.1.2.1
  have hts := hF.1.2.2.2.2
  have hl : lv_has ls 1 [(0, .ref b)] := hl
  unfold t_X6_forget at h
  refine lv_aload_n hx hb dX6_forget_0 rfl (lv_at hl 0 rfl) ?_
  refine lv_iconst (v := 0) hx hb dX6_forget_1 (by decide) ?_
  refine tw_putI hF hL0 hG 0 (by decide) q1833 rfl h dX6_forget_2 (fun σ1 H locs h hG => ?_)
  refine lv_aload_n hx hb dX6_forget_5 rfl (lv_at hl 0 rfl) ?_
  refine k_X6_keeps hF hL0 hG hl (Nat.le_of_ble_eq_true rfl) (Nat.le_of_ble_eq_true rfl) h ⟨Nat.le_of_ble_eq_true rfl, Nat.le_of_ble_eq_true rfl⟩ (Nat.le_of_ble_eq_true rfl) dX6_forget_6 (fun σ2 H locs h hG => ?_)
  refine lv_aload_n hx hb dX6_forget_9 rfl (lv_at hl 0 rfl) ?_
  refine tw_getR hF hG 10 6 (by decide) q1843 rfl dX6_forget_10 ?_
  refine k_X6_forgets hF hL0 hG hl (Nat.le_of_ble_eq_true rfl) (Nat.le_of_ble_eq_true rfl) (by decide) h ⟨Nat.le_of_ble_eq_true rfl, Nat.le_of_ble_eq_true rfl⟩ (Nat.le_of_ble_eq_true rfl) dX6_forget_13 (fun v3 σ4 H locs h hG => ?_)
  have h := Option.some.inj h
  subst h
  exact g_iret hQ hG ⟨rfl, rfl, rfl⟩ (Nat.le_refl _) (Nat.le_refl _) dX6_forget_16
/-! undo -/
def t_X6_undo_L6 : Nat → Int32 → TS → Option (TS)
  | 0, _, _ => none
  | n + 1, y7, σ8 =>
    if 411 ≤ y7 then (
    some σ8)
    else (
    ob1 (T_rd σ8 8 ((411 * (σ8.1 15)) + y7)) fun (v9 : Int32) =>
    ob1 (T_wr σ8 6 y7 v9) fun (σ10 : TS) =>
    nm (y7 + 1) fun (x11 : Int32) =>
    t_X6_undo_L6 n x11 σ10)
def t_X6_undo (σ : TS) : Option (Int32 × TS) :=
nm (T_sf σ 0 0) fun (σ1 : TS) =>
ob1 (
if (σ1.1 15) ≤ 0 then (
some (0 : Int32))
else (
some (1 : Int32))) fun (z2 : Int32) =>
ob2 (t_X6_may σ1 z2 1) fun (v3 : Int32) (σ4 : TS) =>
if v3 = 0 then (
some (0, σ4))
else (
nm (T_sf σ4 15 ((σ4.1 15) - 1)) fun (σ5 : TS) =>
ob1 (
t_X6_undo_L6 4096 0 σ5) fun (σ12 : TS) =>
some ((σ12.1 15), σ12))
set_option maxRecDepth 100000 in
theorem w_X6_undo {l : Launch} {D : va_G} {dA : Nat → ClassId} {K : gKT} {L0 b sz : Nat} {G0 : GH} (hKo : gKo D clX (tyA dA) K) (hL0 : L0 ≤ b) (σ : TS)  {out : Int32 × TS} (h : t_X6_undo σ = some out) : gMet l yX6_undo (ws_ yX6_undo cX6_undo 2 (some .int)) D clX L0 K [.ref b] (twG dA b σ G0) sz 1 22 0 0 (twRI dA b out.2 G0 sz out.1) := by
  refine gMet.of (own := RX6) hKo (by decide +kernel) (Nat.le_of_ble_eq_true rfl) rfl ?_
  intro p e R s m args below meth c A Q ls H hF hQ hin hG hl
  have hx := hF.1.1
  have hb := hF.1.2.1
  have hts := hF.1.2.2.2.2
  have hl : lv_has ls 2 [(0, .ref b)] := hl
  unfold t_X6_undo at h
  refine lv_aload_n hx hb dX6_undo_0 rfl (lv_at hl 0 rfl) ?_
  refine lv_iconst (v := 0) hx hb dX6_undo_1 (by decide) ?_
  refine tw_putI hF hL0 hG 0 (by decide) q1833 rfl h dX6_undo_2 (fun σ1 H locs h hG => ?_)
  refine lv_aload_n hx hb dX6_undo_5 rfl (lv_at hl 0 rfl) ?_
  refine lv_aload_n hx hb dX6_undo_6 rfl (lv_at hl 0 rfl) ?_
  refine tw_getI hF hG 15 (by decide) q1848 rfl dX6_undo_7 ?_
  obtain ⟨X1, h, hJ1⟩ := ob1_u h
  have J1 : ∀ (z2 : Int32), X1 = z2 → ∀ (H : Heap) (locs : List Loc) (ls : Array Slot), gJ D clX L0 A s.heap (twG dA b σ1 G0) sz H locs → lv_has ls 2 [(0, .ref b)] → W p l e R s m args below meth c H locs 0 0 Q (F0 m 18 ls [.int z2, .ref b]) := by
    intro z2 e0 H locs ls hG hl
    have h := hJ1 z2 e0
    refine lv_iconst (v := 1) hx hb dX6_undo_18 (by decide) ?_
    refine k_X6_may hF hL0 hG hl (Nat.le_of_ble_eq_true rfl) (Nat.le_of_ble_eq_true rfl) h ⟨Nat.le_of_ble_eq_true rfl, Nat.le_of_ble_eq_true rfl⟩ (Nat.le_of_ble_eq_true rfl) dX6_undo_19 (fun v3 σ4 H locs h hG => ?_)
    refine gb_if_ne hx hb dX6_undo_22 (tgt := 27) (by decide) h (fun h => ?_) (fun h => ?_)
    · refine lv_aload_n hx hb dX6_undo_27 rfl (lv_at hl 0 rfl) ?_
      refine lv_dup hx hb dX6_undo_28 rfl ?_
      refine tw_getI hF hG 15 (by decide) q1848 rfl dX6_undo_29 ?_
      refine lv_iconst (v := 1) hx hb dX6_undo_32 (by decide) ?_
      refine lv_isub hx hb dX6_undo_33 ?_
      refine tw_putI hF hL0 hG 15 (by decide) q1848 rfl h dX6_undo_34 (fun σ5 H locs h hG => ?_)
      refine lv_iconst (v := 0) hx hb dX6_undo_37 (by decide) ?_
      refine lv_istore_n hx hb dX6_undo_38 rfl hl (Nat.le_of_ble_eq_true rfl) (lv' := [(1, .int 0), (0, .ref b)]) rfl (fun ls hl => ?_)
      obtain ⟨X2, h, hJ2⟩ := ob1_u h
      have J2 : ∀ (σ12 : TS), X2 = σ12 → ∀ (H : Heap) (locs : List Loc) (ls : Array Slot), gJ D clX L0 A s.heap (twG dA b σ12 G0) sz H locs → lv_has ls 2 [(0, .ref b)] → W p l e R s m args below meth c H locs 0 0 Q (F0 m 73 ls []) := by
        intro σ12 e0 H locs ls hG hl
        have h := hJ2 σ12 e0
        refine lv_aload_n hx hb dX6_undo_73 rfl (lv_at hl 0 rfl) ?_
        refine tw_getI hF hG 15 (by decide) q1848 rfl dX6_undo_74 ?_
        have h := Option.some.inj h
        subst h
        exact g_iret hQ hG ⟨rfl, rfl, rfl⟩ (Nat.le_refl _) (Nat.le_refl _) dX6_undo_77
      have LL6 : ∀ (n : Nat) (y7 : Int32) (σ8 : TS), t_X6_undo_L6 n y7 σ8 = some X2 → ∀ (H : Heap) (locs : List Loc) (ls : Array Slot), gJ D clX L0 A s.heap (twG dA b σ8 G0) sz H locs → lv_has ls 2 [(0, .ref b), (1, .int y7)] → W p l e R s m args below meth c H locs 0 0 Q (F0 m 39 ls []) := by
        intro n
        induction n with
        | zero =>
          intro y7 σ8 h
          rw [t_X6_undo_L6] at h
          cases h
        | succ n ihL6 =>
          intro y7 σ8 h H locs ls hG hl
          rw [t_X6_undo_L6] at h
          refine lv_iload_n hx hb dX6_undo_39 rfl (lv_at hl 1 rfl) ?_
          refine lv_sipush (v := 411) hx hb dX6_undo_40 (by decide) ?_
          refine gb_icmp_ge hx hb dX6_undo_43 (tgt := 73) (by decide) h (fun h => ?_) (fun h => ?_)
          · exact J2 _ (Option.some.inj h).symm _ _ _ hG (lv_sub hl [0] rfl)
          · refine lv_aload_n hx hb dX6_undo_46 rfl (lv_at hl 0 rfl) ?_
            refine tw_getR hF hG 10 6 (by decide) q1843 rfl dX6_undo_47 ?_
            refine lv_iload_n hx hb dX6_undo_50 rfl (lv_at hl 1 rfl) ?_
            refine lv_aload_n hx hb dX6_undo_51 rfl (lv_at hl 0 rfl) ?_
            refine tw_getR hF hG 12 8 (by decide) q1845 rfl dX6_undo_52 ?_
            refine lv_sipush (v := 411) hx hb dX6_undo_55 (by decide) ?_
            refine lv_aload_n hx hb dX6_undo_58 rfl (lv_at hl 0 rfl) ?_
            refine tw_getI hF hG 15 (by decide) q1848 rfl dX6_undo_59 ?_
            refine lv_imul hx hb dX6_undo_62 ?_
            refine lv_iload_n hx hb dX6_undo_63 rfl (lv_at hl 1 rfl) ?_
            refine lv_iadd hx hb dX6_undo_64 ?_
            refine tw_rd hF hG (j := 8) (by decide) h dX6_undo_65 (fun v9 h => ?_)
            refine tw_wr hF hL0 hG (j := 6) (by decide) h dX6_undo_66 (fun σ10 H locs h hG => ?_)
            refine gb_iinc (k' := 1) hx hb dX6_undo_67 hl (k := 1) rfl (by decide) (Nat.le_of_ble_eq_true rfl) h (fun x11 ls h hl => ?_)
            have hl : lv_has ls 2 [(1, .int x11), (0, .ref b)] := hl
            refine lv_goto hx hb dX6_undo_70 (tgt := 39) (by decide) ?_
            exact ihL6 _ _ h _ _ _ hG (lv_sub hl [1, 0] rfl)
      exact LL6 _ _ _ h _ _ _ hG (lv_sub hl [1, 0] rfl)
    · refine lv_iconst (v := 0) hx hb dX6_undo_25 (by decide) ?_
      have h := Option.some.inj h
      subst h
      exact g_iret hQ hG ⟨rfl, rfl, rfl⟩ (Nat.le_refl _) (Nat.le_refl _) dX6_undo_26
  refine gb_if_le hx hb dX6_undo_10 (tgt := 17) (by decide) h (fun h => ?_) (fun h => ?_)
  · refine lv_iconst (v := 0) hx hb dX6_undo_17 (by decide) ?_
    exact J1 _ (Option.some.inj h).symm _ _ _ hG hl
  · refine lv_iconst (v := 1) hx hb dX6_undo_13 (by decide) ?_
    refine lv_goto hx hb dX6_undo_14 (tgt := 18) (by decide) ?_
    exact J1 _ (Option.some.inj h).symm _ _ _ hG hl
/-! isSlot -/
def t_X6_isSlot (p0 : Int32) : Option (Int32) :=
ob1 (t_X6_isIn (p0.toInt64) 0 1) fun (v1 : Int32) =>
ob1 (retZ v1) fun (r2 : Int32) =>
some r2
set_option maxRecDepth 100000 in
theorem w_X6_isSlot {l : Launch} {D : va_G} {dA : Nat → ClassId} {K : gKT} {L0 b sz : Nat} {G0 : GH} (hKo : gKo D clX (tyA dA) K) (hL0 : L0 ≤ b) (σ : TS) (p0 : Int32)  {out : Int32} (h : t_X6_isSlot p0 = some out) : gMet l yX6_isSlot (ws_ yX6_isSlot cX6_isSlot 1 (some .boolean)) D clX L0 K [.int p0] (twG dA b σ G0) sz 1 25 0 0 (twRI dA b σ G0 sz out) := by
  refine gMet.of (own := RX6) hKo (by decide +kernel) (Nat.le_of_ble_eq_true rfl) rfl ?_
  intro p e R s m args below meth c A Q ls H hF hQ hin hG hl
  have hx := hF.1.1
  have hb := hF.1.2.1
  have hts := hF.1.2.2.2.2
  have hl : lv_has ls 1 [(0, .int p0)] := hl
  unfold t_X6_isSlot at h
  refine lv_iload_n hx hb dX6_isSlot_0 rfl (lv_at hl 0 rfl) ?_
  refine lv_i2l hx hb dX6_isSlot_1 rfl ?_
  refine lv_lconst (v := 0) hx hb dX6_isSlot_2 (by decide) ?_
  refine lv_lconst (v := 1) hx hb dX6_isSlot_3 (by decide) ?_
  refine k_X6_isIn hF hL0 hG hl (Nat.le_of_ble_eq_true rfl) (Nat.le_of_ble_eq_true rfl) h ⟨Nat.le_of_ble_eq_true rfl, Nat.le_of_ble_eq_true rfl⟩ (Nat.le_of_ble_eq_true rfl) dX6_isSlot_4 (fun v1 H locs h hG => ?_)
  obtain ⟨r2, hz, h⟩ := ob1_e h
  obtain ⟨ez, hz⟩ := retZ_e hz
  have h := Option.some.inj h
  subst h
  rw [← ez] at hQ
  exact g_zret hQ hG hz ⟨rfl, rfl, rfl⟩ (Nat.le_refl _) (Nat.le_refl _) dX6_isSlot_7
theorem k_X6_isSlot (hF : gX p m c cc nL s args RX6 D clX (tyA dA) K A R rm) (hL0 : L0 ≤ b) (hG : gJ D clX L0 A s.heap (twG dA b σ G0) n H locs) (hl : lv_has ls nL lv) (h1 : 1 + 1 ≤ rm.frames) (h2 : 8 + (1 + 11) + 25 ≤ rm.locals) {p0 : Int32} {γ : Type} {f : Int32 → Option γ} {o : γ} (h : ob1 (t_X6_isSlot p0) f = some o) (hc : cells ≤ rm.cells ∧ slots ≤ rm.slots) (hW : (rest.map fun v => v.category).sum ≤ 8) (hdg : decode cc pc = .ok (.invokestatic 340, 3))
    (kk : ∀ (r : Int32) (H1 : Heap) (locs1 : List Loc), f r = some o → gJ D clX L0 A s.heap (twG dA b σ G0) n H1 locs1 → W p l e R s m args below meth c H1 locs1 cells slots Q (F0 m (pc + 3) ls (.int r :: rest))) : W p l e R s m args below meth c H locs cells slots Q (F0 m pc ls (.int p0 :: rest)) := by
  obtain ⟨r, hr, h⟩ := ob1_e h
  refine g_callS hF hG hl (w_X6_isSlot hF.2.2.1 hL0 σ p0 hr) (va_cwS 1 hF.1.2.2.2.2 (lw_S q2289 q2290 q108 q2291) rfl rfl rfl (by decide +kernel) (g_room hF h1 h2)) rfl rfl hW hdg ⟨by rw [hF.2.2.2.2]; exact hc.1, by rw [hF.2.2.2.2]; exact hc.2⟩ (fun v G1 n1 H1 locs1 hR hG1 => ?_)
  obtain ⟨rfl, rfl, rfl⟩ := hR
  exact kk r H1 locs1 h hG1
/-! save -/
def t_X6_save_L5 (p0 : Int32) : Nat → Int32 → TS → Option (TS)
  | 0, _, _ => none
  | n + 1, y6, σ7 =>
    if 411 ≤ y6 then (
    some σ7)
    else (
    ob1 (T_rd σ7 6 y6) fun (v8 : Int32) =>
    ob1 (T_wr σ7 9 ((411 * p0) + y6) v8) fun (σ9 : TS) =>
    nm (y6 + 1) fun (x10 : Int32) =>
    t_X6_save_L5 p0 n x10 σ9)
def t_X6_save (σ : TS) (p0 : Int32) : Option (TS) :=
nm (T_sf σ 0 0) fun (σ1 : TS) =>
ob1 (t_X6_isSlot p0) fun (v2 : Int32) =>
ob2 (t_X6_may σ1 v2 1) fun (v3 : Int32) (σ4 : TS) =>
if v3 = 0 then (
some σ4)
else (
ob1 (
t_X6_save_L5 p0 4096 0 σ4) fun (σ11 : TS) =>
ob1 (T_wz σ11 p0 1) fun (σ12 : TS) =>
some σ12)
set_option maxRecDepth 100000 in
theorem w_X6_save {l : Launch} {D : va_G} {dA : Nat → ClassId} {K : gKT} {L0 b sz : Nat} {G0 : GH} (hKo : gKo D clX (tyA dA) K) (hL0 : L0 ≤ b) (σ : TS) (p0 : Int32)  {out : TS} (h : t_X6_save σ p0 = some out) : gMet l yX6_save (ws_ yX6_save cX6_save 3 none) D clX L0 K [.ref b, .int p0] (twG dA b σ G0) sz 2 45 0 0 (twRV dA b out G0 sz) := by
  refine gMet.of (own := RX6) hKo (by decide +kernel) (Nat.le_of_ble_eq_true rfl) rfl ?_
  intro p e R s m args below meth c A Q ls H hF hQ hin hG hl
  have hx := hF.1.1
  have hb := hF.1.2.1
  have hts := hF.1.2.2.2.2
  have hl : lv_has ls 3 [(0, .ref b), (1, .int p0)] := hl
  unfold t_X6_save at h
  refine lv_aload_n hx hb dX6_save_0 rfl (lv_at hl 0 rfl) ?_
  refine lv_iconst (v := 0) hx hb dX6_save_1 (by decide) ?_
  refine tw_putI hF hL0 hG 0 (by decide) q1833 rfl h dX6_save_2 (fun σ1 H locs h hG => ?_)
  refine lv_aload_n hx hb dX6_save_5 rfl (lv_at hl 0 rfl) ?_
  refine lv_iload_n hx hb dX6_save_6 rfl (lv_at hl 1 rfl) ?_
  refine k_X6_isSlot hF hL0 hG hl (Nat.le_of_ble_eq_true rfl) (Nat.le_of_ble_eq_true rfl) h ⟨Nat.le_of_ble_eq_true rfl, Nat.le_of_ble_eq_true rfl⟩ (Nat.le_of_ble_eq_true rfl) dX6_save_7 (fun v2 H locs h hG => ?_)
  refine lv_iconst (v := 1) hx hb dX6_save_10 (by decide) ?_
  refine k_X6_may hF hL0 hG hl (Nat.le_of_ble_eq_true rfl) (Nat.le_of_ble_eq_true rfl) h ⟨Nat.le_of_ble_eq_true rfl, Nat.le_of_ble_eq_true rfl⟩ (Nat.le_of_ble_eq_true rfl) dX6_save_11 (fun v3 σ4 H locs h hG => ?_)
  refine gb_if_ne hx hb dX6_save_14 (tgt := 18) (by decide) h (fun h => ?_) (fun h => ?_)
  · refine lv_iconst (v := 0) hx hb dX6_save_18 (by decide) ?_
    refine lv_istore_n hx hb dX6_save_19 rfl hl (Nat.le_of_ble_eq_true rfl) (lv' := [(2, .int 0), (0, .ref b), (1, .int p0)]) rfl (fun ls hl => ?_)
    obtain ⟨X1, h, hJ1⟩ := ob1_u h
    have J1 : ∀ (σ11 : TS), X1 = σ11 → ∀ (H : Heap) (locs : List Loc) (ls : Array Slot), gJ D clX L0 A s.heap (twG dA b σ11 G0) sz H locs → lv_has ls 3 [(0, .ref b), (1, .int p0)] → W p l e R s m args below meth c H locs 0 0 Q (F0 m 51 ls []) := by
      intro σ11 e0 H locs ls hG hl
      have h := hJ1 σ11 e0
      refine lv_aload_n hx hb dX6_save_51 rfl (lv_at hl 0 rfl) ?_
      refine tw_getR hF hG 14 10 (by decide) q1847 rfl dX6_save_52 ?_
      refine lv_iload_n hx hb dX6_save_55 rfl (lv_at hl 1 rfl) ?_
      refine lv_iconst (v := 1) hx hb dX6_save_56 (by decide) ?_
      refine tw_wz hF hL0 hG h dX6_save_57 (fun σ12 H locs h hG => ?_)
      have h := Option.some.inj h
      subst h
      exact g_vret hQ hG ⟨rfl, rfl, rfl⟩ (Nat.le_refl _) (Nat.le_refl _) dX6_save_58
    have LL5 : ∀ (n : Nat) (y6 : Int32) (σ7 : TS), t_X6_save_L5 p0 n y6 σ7 = some X1 → ∀ (H : Heap) (locs : List Loc) (ls : Array Slot), gJ D clX L0 A s.heap (twG dA b σ7 G0) sz H locs → lv_has ls 3 [(0, .ref b), (1, .int p0), (2, .int y6)] → W p l e R s m args below meth c H locs 0 0 Q (F0 m 20 ls []) := by
      intro n
      induction n with
      | zero =>
        intro y6 σ7 h
        rw [t_X6_save_L5] at h
        cases h
      | succ n ihL5 =>
        intro y6 σ7 h H locs ls hG hl
        rw [t_X6_save_L5] at h
        refine lv_iload_n hx hb dX6_save_20 rfl (lv_at hl 2 rfl) ?_
        refine lv_sipush (v := 411) hx hb dX6_save_21 (by decide) ?_
        refine gb_icmp_ge hx hb dX6_save_24 (tgt := 51) (by decide) h (fun h => ?_) (fun h => ?_)
        · exact J1 _ (Option.some.inj h).symm _ _ _ hG (lv_sub hl [0, 1] rfl)
        · refine lv_aload_n hx hb dX6_save_27 rfl (lv_at hl 0 rfl) ?_
          refine tw_getR hF hG 13 9 (by decide) q1846 rfl dX6_save_28 ?_
          refine lv_sipush (v := 411) hx hb dX6_save_31 (by decide) ?_
          refine lv_iload_n hx hb dX6_save_34 rfl (lv_at hl 1 rfl) ?_
          refine lv_imul hx hb dX6_save_35 ?_
          refine lv_iload_n hx hb dX6_save_36 rfl (lv_at hl 2 rfl) ?_
          refine lv_iadd hx hb dX6_save_37 ?_
          refine lv_aload_n hx hb dX6_save_38 rfl (lv_at hl 0 rfl) ?_
          refine tw_getR hF hG 10 6 (by decide) q1843 rfl dX6_save_39 ?_
          refine lv_iload_n hx hb dX6_save_42 rfl (lv_at hl 2 rfl) ?_
          refine tw_rd hF hG (j := 6) (by decide) h dX6_save_43 (fun v8 h => ?_)
          refine tw_wr hF hL0 hG (j := 9) (by decide) h dX6_save_44 (fun σ9 H locs h hG => ?_)
          refine gb_iinc (k' := 1) hx hb dX6_save_45 hl (k := 2) rfl (by decide) (Nat.le_of_ble_eq_true rfl) h (fun x10 ls h hl => ?_)
          have hl : lv_has ls 3 [(2, .int x10), (0, .ref b), (1, .int p0)] := hl
          refine lv_goto hx hb dX6_save_48 (tgt := 20) (by decide) ?_
          exact ihL5 _ _ h _ _ _ hG (lv_sub hl [1, 2, 0] rfl)
    exact LL5 _ _ _ h _ _ _ hG (lv_sub hl [1, 2, 0] rfl)
  · have h := Option.some.inj h
    subst h
    exact g_vret hQ hG ⟨rfl, rfl, rfl⟩ (Nat.le_refl _) (Nat.le_refl _) dX6_save_17
/-! restore -/
def t_X6_restore_L8 (p0 : Int32) : Nat → Int32 → TS → Option (TS)
  | 0, _, _ => none
  | n + 1, y9, σ10 =>
    if 411 ≤ y9 then (
    some σ10)
    else (
    ob1 (T_rd σ10 9 ((411 * p0) + y9)) fun (v11 : Int32) =>
    ob1 (T_wr σ10 6 y9 v11) fun (σ12 : TS) =>
    nm (y9 + 1) fun (x13 : Int32) =>
    t_X6_restore_L8 p0 n x13 σ12)
def t_X6_restore (σ : TS) (p0 : Int32) : Option (TS) :=
nm (T_sf σ 0 0) fun (σ1 : TS) =>
ob1 (t_X6_isSlot p0) fun (v2 : Int32) =>
ob2 (t_X6_may σ1 v2 1) fun (v3 : Int32) (σ4 : TS) =>
if v3 = 0 then (
some σ4)
else (
ob1 (T_rd σ4 10 p0) fun (v5 : Int32) =>
ob2 (t_X6_may σ4 v5 2) fun (v6 : Int32) (σ7 : TS) =>
if v6 = 0 then (
some σ7)
else (
ob1 (
t_X6_restore_L8 p0 4096 0 σ7) fun (σ14 : TS) =>
nm (T_sf σ14 15 0) fun (σ15 : TS) =>
some σ15))
set_option maxRecDepth 100000 in
theorem w_X6_restore {l : Launch} {D : va_G} {dA : Nat → ClassId} {K : gKT} {L0 b sz : Nat} {G0 : GH} (hKo : gKo D clX (tyA dA) K) (hL0 : L0 ≤ b) (σ : TS) (p0 : Int32)  {out : TS} (h : t_X6_restore σ p0 = some out) : gMet l yX6_restore (ws_ yX6_restore cX6_restore 3 none) D clX L0 K [.ref b, .int p0] (twG dA b σ G0) sz 2 45 0 0 (twRV dA b out G0 sz) := by
  refine gMet.of (own := RX6) hKo (by decide +kernel) (Nat.le_of_ble_eq_true rfl) rfl ?_
  intro p e R s m args below meth c A Q ls H hF hQ hin hG hl
  have hx := hF.1.1
  have hb := hF.1.2.1
  have hts := hF.1.2.2.2.2
  have hl : lv_has ls 3 [(0, .ref b), (1, .int p0)] := hl
  unfold t_X6_restore at h
  refine lv_aload_n hx hb dX6_restore_0 rfl (lv_at hl 0 rfl) ?_
  refine lv_iconst (v := 0) hx hb dX6_restore_1 (by decide) ?_
  refine tw_putI hF hL0 hG 0 (by decide) q1833 rfl h dX6_restore_2 (fun σ1 H locs h hG => ?_)
  refine lv_aload_n hx hb dX6_restore_5 rfl (lv_at hl 0 rfl) ?_
  refine lv_iload_n hx hb dX6_restore_6 rfl (lv_at hl 1 rfl) ?_
  refine k_X6_isSlot hF hL0 hG hl (Nat.le_of_ble_eq_true rfl) (Nat.le_of_ble_eq_true rfl) h ⟨Nat.le_of_ble_eq_true rfl, Nat.le_of_ble_eq_true rfl⟩ (Nat.le_of_ble_eq_true rfl) dX6_restore_7 (fun v2 H locs h hG => ?_)
  refine lv_iconst (v := 1) hx hb dX6_restore_10 (by decide) ?_
  refine k_X6_may hF hL0 hG hl (Nat.le_of_ble_eq_true rfl) (Nat.le_of_ble_eq_true rfl) h ⟨Nat.le_of_ble_eq_true rfl, Nat.le_of_ble_eq_true rfl⟩ (Nat.le_of_ble_eq_true rfl) dX6_restore_11 (fun v3 σ4 H locs h hG => ?_)
  refine gb_if_eq hx hb dX6_restore_14 (tgt := 31) (by decide) h (fun h => ?_) (fun h => ?_)
  · have h := Option.some.inj h
    subst h
    exact g_vret hQ hG ⟨rfl, rfl, rfl⟩ (Nat.le_refl _) (Nat.le_refl _) dX6_restore_31
  · refine lv_aload_n hx hb dX6_restore_17 rfl (lv_at hl 0 rfl) ?_
    refine lv_aload_n hx hb dX6_restore_18 rfl (lv_at hl 0 rfl) ?_
    refine tw_getR hF hG 14 10 (by decide) q1847 rfl dX6_restore_19 ?_
    refine lv_iload_n hx hb dX6_restore_22 rfl (lv_at hl 1 rfl) ?_
    refine tw_rz hF hG h dX6_restore_23 (fun v5 h => ?_)
    refine lv_iconst (v := 2) hx hb dX6_restore_24 (by decide) ?_
    refine k_X6_may hF hL0 hG hl (Nat.le_of_ble_eq_true rfl) (Nat.le_of_ble_eq_true rfl) h ⟨Nat.le_of_ble_eq_true rfl, Nat.le_of_ble_eq_true rfl⟩ (Nat.le_of_ble_eq_true rfl) dX6_restore_25 (fun v6 σ7 H locs h hG => ?_)
    refine gb_if_ne hx hb dX6_restore_28 (tgt := 32) (by decide) h (fun h => ?_) (fun h => ?_)
    · refine lv_iconst (v := 0) hx hb dX6_restore_32 (by decide) ?_
      refine lv_istore_n hx hb dX6_restore_33 rfl hl (Nat.le_of_ble_eq_true rfl) (lv' := [(2, .int 0), (0, .ref b), (1, .int p0)]) rfl (fun ls hl => ?_)
      obtain ⟨X1, h, hJ1⟩ := ob1_u h
      have J1 : ∀ (σ14 : TS), X1 = σ14 → ∀ (H : Heap) (locs : List Loc) (ls : Array Slot), gJ D clX L0 A s.heap (twG dA b σ14 G0) sz H locs → lv_has ls 3 [(0, .ref b)] → W p l e R s m args below meth c H locs 0 0 Q (F0 m 65 ls []) := by
        intro σ14 e0 H locs ls hG hl
        have h := hJ1 σ14 e0
        refine lv_aload_n hx hb dX6_restore_65 rfl (lv_at hl 0 rfl) ?_
        refine lv_iconst (v := 0) hx hb dX6_restore_66 (by decide) ?_
        refine tw_putI hF hL0 hG 15 (by decide) q1848 rfl h dX6_restore_67 (fun σ15 H locs h hG => ?_)
        have h := Option.some.inj h
        subst h
        exact g_vret hQ hG ⟨rfl, rfl, rfl⟩ (Nat.le_refl _) (Nat.le_refl _) dX6_restore_70
      have LL8 : ∀ (n : Nat) (y9 : Int32) (σ10 : TS), t_X6_restore_L8 p0 n y9 σ10 = some X1 → ∀ (H : Heap) (locs : List Loc) (ls : Array Slot), gJ D clX L0 A s.heap (twG dA b σ10 G0) sz H locs → lv_has ls 3 [(0, .ref b), (1, .int p0), (2, .int y9)] → W p l e R s m args below meth c H locs 0 0 Q (F0 m 34 ls []) := by
        intro n
        induction n with
        | zero =>
          intro y9 σ10 h
          rw [t_X6_restore_L8] at h
          cases h
        | succ n ihL8 =>
          intro y9 σ10 h H locs ls hG hl
          rw [t_X6_restore_L8] at h
          refine lv_iload_n hx hb dX6_restore_34 rfl (lv_at hl 2 rfl) ?_
          refine lv_sipush (v := 411) hx hb dX6_restore_35 (by decide) ?_
          refine gb_icmp_ge hx hb dX6_restore_38 (tgt := 65) (by decide) h (fun h => ?_) (fun h => ?_)
          · exact J1 _ (Option.some.inj h).symm _ _ _ hG (lv_sub hl [0] rfl)
          · refine lv_aload_n hx hb dX6_restore_41 rfl (lv_at hl 0 rfl) ?_
            refine tw_getR hF hG 10 6 (by decide) q1843 rfl dX6_restore_42 ?_
            refine lv_iload_n hx hb dX6_restore_45 rfl (lv_at hl 2 rfl) ?_
            refine lv_aload_n hx hb dX6_restore_46 rfl (lv_at hl 0 rfl) ?_
            refine tw_getR hF hG 13 9 (by decide) q1846 rfl dX6_restore_47 ?_
            refine lv_sipush (v := 411) hx hb dX6_restore_50 (by decide) ?_
            refine lv_iload_n hx hb dX6_restore_53 rfl (lv_at hl 1 rfl) ?_
            refine lv_imul hx hb dX6_restore_54 ?_
            refine lv_iload_n hx hb dX6_restore_55 rfl (lv_at hl 2 rfl) ?_
            refine lv_iadd hx hb dX6_restore_56 ?_
            refine tw_rd hF hG (j := 9) (by decide) h dX6_restore_57 (fun v11 h => ?_)
            refine tw_wr hF hL0 hG (j := 6) (by decide) h dX6_restore_58 (fun σ12 H locs h hG => ?_)
            refine gb_iinc (k' := 1) hx hb dX6_restore_59 hl (k := 2) rfl (by decide) (Nat.le_of_ble_eq_true rfl) h (fun x13 ls h hl => ?_)
            have hl : lv_has ls 3 [(2, .int x13), (0, .ref b), (1, .int p0)] := hl
            refine lv_goto hx hb dX6_restore_62 (tgt := 34) (by decide) ?_
            exact ihL8 _ _ h _ _ _ hG (lv_sub hl [1, 2, 0] rfl)
      exact LL8 _ _ _ h _ _ _ hG (lv_sub hl [1, 2, 0] rfl)
    · have h := Option.some.inj h
      subst h
      exact g_vret hQ hG ⟨rfl, rfl, rfl⟩ (Nat.le_refl _) (Nat.le_refl _) dX6_restore_31
/-! strain -/
def t_X6_strain (σ : TS) : Option (UInt64 × TS) :=
nm (T_sf σ 0 0) fun (σ1 : TS) =>
ob1 (T_rd σ1 6 10) fun (v2 : Int32) =>
ob1 (T_rd σ1 6 6) fun (v3 : Int32) =>
gd ((FP.ddiv (FP.i2d v2) (FP.i2d v3)) &&& 0x7fffffffffffffff ≤ 0x7ff0000000000000) <|
some ((FP.ddiv (FP.i2d v2) (FP.i2d v3)), σ1)
set_option maxRecDepth 100000 in
theorem w_X6_strain {l : Launch} {D : va_G} {dA : Nat → ClassId} {K : gKT} {L0 b sz : Nat} {G0 : GH} (hKo : gKo D clX (tyA dA) K) (hL0 : L0 ≤ b) (σ : TS)  {out : UInt64 × TS} (h : t_X6_strain σ = some out) : gMet l yX6_strain (ws_ yX6_strain cX6_strain 1 (some .double)) D clX L0 K [.ref b] (twG dA b σ G0) sz 0 0 0 0 (twRD dA b out.2 G0 sz out.1) := by
  refine gMet.of (own := RX6) hKo (by decide +kernel) (Nat.le_of_ble_eq_true rfl) rfl ?_
  intro p e R s m args below meth c A Q ls H hF hQ hin hG hl
  have hx := hF.1.1
  have hb := hF.1.2.1
  have hts := hF.1.2.2.2.2
  have hl : lv_has ls 1 [(0, .ref b)] := hl
  unfold t_X6_strain at h
  refine lv_aload_n hx hb dX6_strain_0 rfl (lv_at hl 0 rfl) ?_
  refine lv_iconst (v := 0) hx hb dX6_strain_1 (by decide) ?_
  refine tw_putI hF hL0 hG 0 (by decide) q1833 rfl h dX6_strain_2 (fun σ1 H locs h hG => ?_)
  refine lv_aload_n hx hb dX6_strain_5 rfl (lv_at hl 0 rfl) ?_
  refine tw_getR hF hG 10 6 (by decide) q1843 rfl dX6_strain_6 ?_
  refine lv_bipush (v := 10) hx hb dX6_strain_9 (by decide) ?_
  refine tw_rd hF hG (j := 6) (by decide) h dX6_strain_11 (fun v2 h => ?_)
  refine lv_i2d hx hb dX6_strain_12 ?_
  refine lv_aload_n hx hb dX6_strain_13 rfl (lv_at hl 0 rfl) ?_
  refine tw_getR hF hG 10 6 (by decide) q1843 rfl dX6_strain_14 ?_
  refine lv_bipush (v := 6) hx hb dX6_strain_17 (by decide) ?_
  refine tw_rd hF hG (j := 6) (by decide) h dX6_strain_19 (fun v3 h => ?_)
  refine lv_i2d hx hb dX6_strain_20 ?_
  refine gb_ddiv hx hb dX6_strain_21 h (fun h => ?_)
  have h := Option.some.inj h
  subst h
  exact g_dret hQ hG ⟨rfl, rfl, rfl⟩ (Nat.le_refl _) (Nat.le_refl _) dX6_strain_22
end TT
