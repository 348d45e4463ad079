section TT
variable {p : Program} {l : Launch} {e : Env} {R : Room} {s : State} {m : MethodId} {args : Array Value} {below : List Frame} {meth : Method} {c : Code} {H : Heap} {locs : List Loc} {cells slots : Nat} {Q : State → Prop}
variable {cc : ByteArray} {pc : Nat} {ls : Array Slot} {rest : List Value} {D : va_G} {A : Nat → Prop} {L0 n nL : Nat} {K : gKT} {rm : Room} {lv : List (Nat × Value)}
variable {dA : Nat → ClassId} {b : Nat} {σ : TS} {G0 : GH}
/-! isIn -/
def t_X6_isIn (p0 : Int64) (p1 : Int64) (p2 : Int64) : Option (Int32) :=
if (lg_cmp p0 p1) < 0 then (
some 0)
else (
if 0 < (lg_cmp p0 p2) then (
some 0)
else (
some 1))
set_option maxRecDepth 100000 in
theorem w_X6_isIn {l : Launch} {D : va_G} {dA : Nat → ClassId} {K : gKT} {L0 b sz : Nat} {G0 : GH} (hKo : gKo D clX (tyA dA) K) (hL0 : L0 ≤ b) (σ : TS) (p0 : Int64) (p1 : Int64) (p2 : Int64)  {out : Int32} (h : t_X6_isIn p0 p1 p2 = some out) : gMet l yX6_isIn (ws_ yX6_isIn cX6_isIn 6 (some .boolean)) D clX L0 K [.long p0, .long p1, .long p2] (twG dA b σ G0) sz 0 0 0 0 (twRI dA b σ G0 sz out) := by
  refine gMet.of (own := RX6) hKo (by decide +kernel) (Nat.le_of_ble_eq_true rfl) rfl ?_
  intro p e R s m args below meth c A Q ls H hF hQ hin hG hl
  have hx := hF.1.1
  have hb := hF.1.2.1
  have hts := hF.1.2.2.2.2
  have hl : lv_has ls 6 [(0, .long p0), (2, .long p1), (4, .long p2)] := hl
  unfold t_X6_isIn at h
  refine lv_lload_n hx hb dX6_isIn_0 rfl (lv_at hl 0 rfl) ?_
  refine lv_lload_n hx hb dX6_isIn_1 rfl (lv_at hl 1 rfl) ?_
  refine W.lcmp hx hb dX6_isIn_2 ?_
  refine gb_if_lt hx hb dX6_isIn_3 (tgt := 17) (by decide) h (fun h => ?_) (fun h => ?_)
  · refine lv_iconst (v := 0) hx hb dX6_isIn_17 (by decide) ?_
    have h := Option.some.inj h
    subst h
    exact g_zret hQ hG (by decide) ⟨rfl, rfl, rfl⟩ (Nat.le_refl _) (Nat.le_refl _) dX6_isIn_18
  · refine lv_lload_n hx hb dX6_isIn_6 rfl (lv_at hl 0 rfl) ?_
    refine lv_lload hx hb dX6_isIn_7 (lv_at hl 2 rfl) ?_
    refine W.lcmp hx hb dX6_isIn_9 ?_
    refine gb_if_gt hx hb dX6_isIn_10 (tgt := 17) (by decide) h (fun h => ?_) (fun h => ?_)
    · refine lv_iconst (v := 0) hx hb dX6_isIn_17 (by decide) ?_
      have h := Option.some.inj h
      subst h
      exact g_zret hQ hG (by decide) ⟨rfl, rfl, rfl⟩ (Nat.le_refl _) (Nat.le_refl _) dX6_isIn_18
    · refine lv_iconst (v := 1) hx hb dX6_isIn_13 (by decide) ?_
      refine lv_goto hx hb dX6_isIn_14 (tgt := 18) (by decide) ?_
      have h := Option.some.inj h
      subst h
      exact g_zret hQ hG (by decide) ⟨rfl, rfl, rfl⟩ (Nat.le_refl _) (Nat.le_refl _) dX6_isIn_18
theorem k_X6_isIn (hF : gX p m c cc nL s args RX6 D clX (tyA dA) K A R rm) (hL0 : L0 ≤ b) (hG : gJ D clX L0 A s.heap (twG dA b σ G0) n H locs) (hl : lv_has ls nL lv) (h1 : 0 + 1 ≤ rm.frames) (h2 : 8 + (6 + 11) + 0 ≤ rm.locals) {p0 : Int64} {p1 : Int64} {p2 : Int64} {γ : Type} {f : Int32 → Option γ} {o : γ} (h : ob1 (t_X6_isIn p0 p1 p2) f = some o) (hc : cells ≤ rm.cells ∧ slots ≤ rm.slots) (hW : (rest.map fun v => v.category).sum ≤ 8) (hdg : decode cc pc = .ok (.invokestatic 82, 3))
    (kk : ∀ (r : Int32) (H1 : Heap) (locs1 : List Loc), f r = some o → gJ D clX L0 A s.heap (twG dA b σ G0) n H1 locs1 → W p l e R s m args below meth c H1 locs1 cells slots Q (F0 m (pc + 3) ls (.int r :: rest))) : W p l e R s m args below meth c H locs cells slots Q (F0 m pc ls (.long p2 :: .long p1 :: .long p0 :: rest)) := by
  obtain ⟨r, hr, h⟩ := ob1_e h
  refine g_callS hF hG hl (w_X6_isIn hF.2.2.1 hL0 σ p0 p1 p2 hr) (va_cwS 3 hF.1.2.2.2.2 (lw_S q1956 q1957 q108 q1958) rfl rfl rfl (by decide +kernel) (g_room hF h1 h2)) rfl rfl hW hdg ⟨by rw [hF.2.2.2.2]; exact hc.1, by rw [hF.2.2.2.2]; exact hc.2⟩ (fun v G1 n1 H1 locs1 hR hG1 => ?_)
  obtain ⟨rfl, rfl, rfl⟩ := hR
  exact kk r H1 locs1 h hG1
/-! at -/
def t_X6_at (p0 : Int32) (p1 : Int32) : Option (Int32) :=
some ((51 + (12 * p0)) + p1)
set_option maxRecDepth 100000 in
theorem w_X6_at {l : Launch} {D : va_G} {dA : Nat → ClassId} {K : gKT} {L0 b sz : Nat} {G0 : GH} (hKo : gKo D clX (tyA dA) K) (hL0 : L0 ≤ b) (σ : TS) (p0 : Int32) (p1 : Int32)  {out : Int32} (h : t_X6_at p0 p1 = some out) : gMet l yX6_at (ws_ yX6_at cX6_at 2 (some .int)) D clX L0 K [.int p0, .int p1] (twG dA b σ G0) sz 0 0 0 0 (twRI dA b σ G0 sz out) := by
  refine gMet.of (own := RX6) hKo (by decide +kernel) (Nat.le_of_ble_eq_true rfl) rfl ?_
  intro p e R s m args below meth c A Q ls H hF hQ hin hG hl
  have hx := hF.1.1
  have hb := hF.1.2.1
  have hts := hF.1.2.2.2.2
  have hl : lv_has ls 2 [(0, .int p0), (1, .int p1)] := hl
  unfold t_X6_at at h
  refine lv_bipush (v := 51) hx hb dX6_at_0 (by decide) ?_
  refine lv_bipush (v := 12) hx hb dX6_at_2 (by decide) ?_
  refine lv_iload_n hx hb dX6_at_4 rfl (lv_at hl 0 rfl) ?_
  refine lv_imul hx hb dX6_at_5 ?_
  refine lv_iadd hx hb dX6_at_6 ?_
  refine lv_iload_n hx hb dX6_at_7 rfl (lv_at hl 1 rfl) ?_
  refine lv_iadd hx hb dX6_at_8 ?_
  have h := Option.some.inj h
  subst h
  exact g_iret hQ hG ⟨rfl, rfl, rfl⟩ (Nat.le_refl _) (Nat.le_refl _) dX6_at_9
theorem k_X6_at (hF : gX p m c cc nL s args RX6 D clX (tyA dA) K A R rm) (hL0 : L0 ≤ b) (hG : gJ D clX L0 A s.heap (twG dA b σ G0) n H locs) (hl : lv_has ls nL lv) (h1 : 0 + 1 ≤ rm.frames) (h2 : 8 + (2 + 11) + 0 ≤ rm.locals) {p0 : Int32} {p1 : Int32} {γ : Type} {f : Int32 → Option γ} {o : γ} (h : ob1 (t_X6_at p0 p1) f = some o) (hc : cells ≤ rm.cells ∧ slots ≤ rm.slots) (hW : (rest.map fun v => v.category).sum ≤ 8) (hdg : decode cc pc = .ok (.invokestatic 157, 3))
    (kk : ∀ (r : Int32) (H1 : Heap) (locs1 : List Loc), f r = some o → gJ D clX L0 A s.heap (twG dA b σ G0) n H1 locs1 → W p l e R s m args below meth c H1 locs1 cells slots Q (F0 m (pc + 3) ls (.int r :: rest))) : W p l e R s m args below meth c H locs cells slots Q (F0 m pc ls (.int p1 :: .int p0 :: rest)) := by
  obtain ⟨r, hr, h⟩ := ob1_e h
  refine g_callS hF hG hl (w_X6_at hF.2.2.1 hL0 σ p0 p1 hr) (va_cwS 2 hF.1.2.2.2.2 (lw_S q1830 q1831 q108 q1832) rfl rfl rfl (by decide +kernel) (g_room hF h1 h2)) rfl rfl hW hdg ⟨by rw [hF.2.2.2.2]; exact hc.1, by rw [hF.2.2.2.2]; exact hc.2⟩ (fun v G1 n1 H1 locs1 hR hG1 => ?_)
  obtain ⟨rfl, rfl, rfl⟩ := hR
  exact kk r H1 locs1 h hG1
/-! isLetter -/
def t_X6_isLetter (p0 : Int32) : Option (Int32) :=
if p0 < 97 then (
some 0)
else (
if 122 < p0 then (
some 0)
else (
some 1))
set_option maxRecDepth 100000 in
theorem w_X6_isLetter {l : Launch} {D : va_G} {dA : Nat → ClassId} {K : gKT} {L0 b sz : Nat} {G0 : GH} (hKo : gKo D clX (tyA dA) K) (hL0 : L0 ≤ b) (σ : TS) (p0 : Int32)  {out : Int32} (h : t_X6_isLetter p0 = some out) : gMet l yX6_isLetter (ws_ yX6_isLetter cX6_isLetter 1 (some .boolean)) D clX L0 K [.int p0] (twG dA b σ G0) sz 0 0 0 0 (twRI dA b σ G0 sz out) := by
  refine gMet.of (own := RX6) hKo (by decide +kernel) (Nat.le_of_ble_eq_true rfl) rfl ?_
  intro p e R s m args below meth c A Q ls H hF hQ hin hG hl
  have hx := hF.1.1
  have hb := hF.1.2.1
  have hts := hF.1.2.2.2.2
  have hl : lv_has ls 1 [(0, .int p0)] := hl
  unfold t_X6_isLetter at h
  refine lv_iload_n hx hb dX6_isLetter_0 rfl (lv_at hl 0 rfl) ?_
  refine lv_bipush (v := 97) hx hb dX6_isLetter_1 (by decide) ?_
  refine gb_icmp_lt hx hb dX6_isLetter_3 (tgt := 16) (by decide) h (fun h => ?_) (fun h => ?_)
  · refine lv_iconst (v := 0) hx hb dX6_isLetter_16 (by decide) ?_
    have h := Option.some.inj h
    subst h
    exact g_zret hQ hG (by decide) ⟨rfl, rfl, rfl⟩ (Nat.le_refl _) (Nat.le_refl _) dX6_isLetter_17
  · refine lv_iload_n hx hb dX6_isLetter_6 rfl (lv_at hl 0 rfl) ?_
    refine lv_bipush (v := 122) hx hb dX6_isLetter_7 (by decide) ?_
    refine gb_icmp_gt hx hb dX6_isLetter_9 (tgt := 16) (by decide) h (fun h => ?_) (fun h => ?_)
    · refine lv_iconst (v := 0) hx hb dX6_isLetter_16 (by decide) ?_
      have h := Option.some.inj h
      subst h
      exact g_zret hQ hG (by decide) ⟨rfl, rfl, rfl⟩ (Nat.le_refl _) (Nat.le_refl _) dX6_isLetter_17
    · refine lv_iconst (v := 1) hx hb dX6_isLetter_12 (by decide) ?_
      refine lv_goto hx hb dX6_isLetter_13 (tgt := 17) (by decide) ?_
      have h := Option.some.inj h
      subst h
      exact g_zret hQ hG (by decide) ⟨rfl, rfl, rfl⟩ (Nat.le_refl _) (Nat.le_refl _) dX6_isLetter_17
theorem k_X6_isLetter (hF : gX p m c cc nL s args RX6 D clX (tyA dA) K A R rm) (hL0 : L0 ≤ b) (hG : gJ D clX L0 A s.heap (twG dA b σ G0) n H locs) (hl : lv_has ls nL lv) (h1 : 0 + 1 ≤ rm.frames) (h2 : 8 + (1 + 11) + 0 ≤ rm.locals) {p0 : Int32} {γ : Type} {f : Int32 → Option γ} {o : γ} (h : ob1 (t_X6_isLetter p0) f = some o) (hc : cells ≤ rm.cells ∧ slots ≤ rm.slots) (hW : (rest.map fun v => v.category).sum ≤ 8) (hdg : decode cc pc = .ok (.invokestatic 102, 3))
    (kk : ∀ (r : Int32) (H1 : Heap) (locs1 : List Loc), f r = some o → gJ D clX L0 A s.heap (twG dA b σ G0) n H1 locs1 → W p l e R s m args below meth c H1 locs1 cells slots Q (F0 m (pc + 3) ls (.int r :: rest))) : W p l e R s m args below meth c H locs cells slots Q (F0 m pc ls (.int p0 :: rest)) := by
  obtain ⟨r, hr, h⟩ := ob1_e h
  refine g_callS hF hG hl (w_X6_isLetter hF.2.2.1 hL0 σ p0 hr) (va_cwS 1 hF.1.2.2.2.2 (lw_S q1971 q1972 q108 q1973) rfl rfl rfl (by decide +kernel) (g_room hF h1 h2)) rfl rfl hW hdg ⟨by rw [hF.2.2.2.2]; exact hc.1, by rw [hF.2.2.2.2]; exact hc.2⟩ (fun v G1 n1 H1 locs1 hR hG1 => ?_)
  obtain ⟨rfl, rfl, rfl⟩ := hR
  exact kk r H1 locs1 h hG1
/-! isDigit -/
def t_X6_isDigit (p0 : Int32) : Option (Int32) :=
if p0 < 48 then (
some 0)
else (
if 57 < p0 then (
some 0)
else (
some 1))
set_option maxRecDepth 100000 in
theorem w_X6_isDigit {l : Launch} {D : va_G} {dA : Nat → ClassId} {K : gKT} {L0 b sz : Nat} {G0 : GH} (hKo : gKo D clX (tyA dA) K) (hL0 : L0 ≤ b) (σ : TS) (p0 : Int32)  {out : Int32} (h : t_X6_isDigit p0 = some out) : gMet l yX6_isDigit (ws_ yX6_isDigit cX6_isDigit 1 (some .boolean)) D clX L0 K [.int p0] (twG dA b σ G0) sz 0 0 0 0 (twRI dA b σ G0 sz out) := by
  refine gMet.of (own := RX6) hKo (by decide +kernel) (Nat.le_of_ble_eq_true rfl) rfl ?_
  intro p e R s m args below meth c A Q ls H hF hQ hin hG hl
  have hx := hF.1.1
  have hb := hF.1.2.1
  have hts := hF.1.2.2.2.2
  have hl : lv_has ls 1 [(0, .int p0)] := hl
  unfold t_X6_isDigit at h
  refine lv_iload_n hx hb dX6_isDigit_0 rfl (lv_at hl 0 rfl) ?_
  refine lv_bipush (v := 48) hx hb dX6_isDigit_1 (by decide) ?_
  refine gb_icmp_lt hx hb dX6_isDigit_3 (tgt := 16) (by decide) h (fun h => ?_) (fun h => ?_)
  · refine lv_iconst (v := 0) hx hb dX6_isDigit_16 (by decide) ?_
    have h := Option.some.inj h
    subst h
    exact g_zret hQ hG (by decide) ⟨rfl, rfl, rfl⟩ (Nat.le_refl _) (Nat.le_refl _) dX6_isDigit_17
  · refine lv_iload_n hx hb dX6_isDigit_6 rfl (lv_at hl 0 rfl) ?_
    refine lv_bipush (v := 57) hx hb dX6_isDigit_7 (by decide) ?_
    refine gb_icmp_gt hx hb dX6_isDigit_9 (tgt := 16) (by decide) h (fun h => ?_) (fun h => ?_)
    · refine lv_iconst (v := 0) hx hb dX6_isDigit_16 (by decide) ?_
      have h := Option.some.inj h
      subst h
      exact g_zret hQ hG (by decide) ⟨rfl, rfl, rfl⟩ (Nat.le_refl _) (Nat.le_refl _) dX6_isDigit_17
    · refine lv_iconst (v := 1) hx hb dX6_isDigit_12 (by decide) ?_
      refine lv_goto hx hb dX6_isDigit_13 (tgt := 17) (by decide) ?_
      have h := Option.some.inj h
      subst h
      exact g_zret hQ hG (by decide) ⟨rfl, rfl, rfl⟩ (Nat.le_refl _) (Nat.le_refl _) dX6_isDigit_17
theorem k_X6_isDigit (hF : gX p m c cc nL s args RX6 D clX (tyA dA) K A R rm) (hL0 : L0 ≤ b) (hG : gJ D clX L0 A s.heap (twG dA b σ G0) n H locs) (hl : lv_has ls nL lv) (h1 : 0 + 1 ≤ rm.frames) (h2 : 8 + (1 + 11) + 0 ≤ rm.locals) {p0 : Int32} {γ : Type} {f : Int32 → Option γ} {o : γ} (h : ob1 (t_X6_isDigit p0) f = some o) (hc : cells ≤ rm.cells ∧ slots ≤ rm.slots) (hW : (rest.map fun v => v.category).sum ≤ 8) (hdg : decode cc pc = .ok (.invokestatic 106, 3))
    (kk : ∀ (r : Int32) (H1 : Heap) (locs1 : List Loc), f r = some o → gJ D clX L0 A s.heap (twG dA b σ G0) n H1 locs1 → W p l e R s m args below meth c H1 locs1 cells slots Q (F0 m (pc + 3) ls (.int r :: rest))) : W p l e R s m args below meth c H locs cells slots Q (F0 m pc ls (.int p0 :: rest)) := by
  obtain ⟨r, hr, h⟩ := ob1_e h
  refine g_callS hF hG hl (w_X6_isDigit hF.2.2.1 hL0 σ p0 hr) (va_cwS 1 hF.1.2.2.2.2 (lw_S q1974 q1975 q108 q1976) rfl rfl rfl (by decide +kernel) (g_room hF h1 h2)) rfl rfl hW hdg ⟨by rw [hF.2.2.2.2]; exact hc.1, by rw [hF.2.2.2.2]; exact hc.2⟩ (fun v G1 n1 H1 locs1 hR hG1 => ?_)
  obtain ⟨rfl, rfl, rfl⟩ := hR
  exact kk r H1 locs1 h hG1
/-! thrown -/
def t_X6_thrown (σ : TS) : Option (Int32) :=
some (σ.1 0)
set_option maxRecDepth 100000 in
theorem w_X6_thrown {l : Launch} {D : va_G} {dA : Nat → ClassId} {K : gKT} {L0 b sz : Nat} {G0 : GH} (hKo : gKo D clX (tyA dA) K) (hL0 : L0 ≤ b) (σ : TS)  {out : Int32} (h : t_X6_thrown σ = some out) : gMet l yX6_thrown (ws_ yX6_thrown cX6_thrown 1 (some .int)) D clX L0 K [.ref b] (twG dA b σ G0) sz 0 0 0 0 (twRI dA b σ G0 sz out) := by
  refine gMet.of (own := RX6) hKo (by decide +kernel) (Nat.le_of_ble_eq_true rfl) rfl ?_
  intro p e R s m args below meth c A Q ls H hF hQ hin hG hl
  have hx := hF.1.1
  have hb := hF.1.2.1
  have hts := hF.1.2.2.2.2
  have hl : lv_has ls 1 [(0, .ref b)] := hl
  unfold t_X6_thrown at h
  refine lv_aload_n hx hb dX6_thrown_0 rfl (lv_at hl 0 rfl) ?_
  refine tw_getI hF hG 0 (by decide) q1833 rfl dX6_thrown_1 ?_
  have h := Option.some.inj h
  subst h
  exact g_iret hQ hG ⟨rfl, rfl, rfl⟩ (Nat.le_refl _) (Nat.le_refl _) dX6_thrown_4
/-! byteAt -/
def t_X6_byteAt (σ : TS) (p0 : Int32) : Option (Int32) :=
if (σ.1 24) ≤ p0 then (
some (-1))
else (
ob1 (T_rd σ 11 p0) fun (v1 : Int32) =>
some v1)
set_option maxRecDepth 100000 in
theorem w_X6_byteAt {l : Launch} {D : va_G} {dA : Nat → ClassId} {K : gKT} {L0 b sz : Nat} {G0 : GH} (hKo : gKo D clX (tyA dA) K) (hL0 : L0 ≤ b) (σ : TS) (p0 : Int32)  {out : Int32} (h : t_X6_byteAt σ p0 = some out) : gMet l yX6_byteAt (ws_ yX6_byteAt cX6_byteAt 2 (some .int)) D clX L0 K [.ref b, .int p0] (twG dA b σ G0) sz 0 0 0 0 (twRI dA b σ G0 sz out) := by
  refine gMet.of (own := RX6) hKo (by decide +kernel) (Nat.le_of_ble_eq_true rfl) rfl ?_
  intro p e R s m args below meth c A Q ls H hF hQ hin hG hl
  have hx := hF.1.1
  have hb := hF.1.2.1
  have hts := hF.1.2.2.2.2
  have hl : lv_has ls 2 [(0, .ref b), (1, .int p0)] := hl
  unfold t_X6_byteAt at h
  refine lv_iload_n hx hb dX6_byteAt_0 rfl (lv_at hl 1 rfl) ?_
  refine lv_aload_n hx hb dX6_byteAt_1 rfl (lv_at hl 0 rfl) ?_
  refine tw_getI hF hG 24 (by decide) q1857 rfl dX6_byteAt_2 ?_
  refine gb_icmp_ge hx hb dX6_byteAt_5 (tgt := 17) (by decide) h (fun h => ?_) (fun h => ?_)
  · refine lv_iconst (v := (-1)) hx hb dX6_byteAt_17 (by decide) ?_
    have h := Option.some.inj h
    subst h
    exact g_iret hQ hG ⟨rfl, rfl, rfl⟩ (Nat.le_refl _) (Nat.le_refl _) dX6_byteAt_18
  · refine lv_aload_n hx hb dX6_byteAt_8 rfl (lv_at hl 0 rfl) ?_
    refine tw_getR hF hG 16 11 (by decide) q1849 rfl dX6_byteAt_9 ?_
    refine lv_iload_n hx hb dX6_byteAt_12 rfl (lv_at hl 1 rfl) ?_
    refine tw_rd hF hG (j := 11) (by decide) h dX6_byteAt_13 (fun v1 h => ?_)
    refine lv_goto hx hb dX6_byteAt_14 (tgt := 18) (by decide) ?_
    have h := Option.some.inj h
    subst h
    exact g_iret hQ hG ⟨rfl, rfl, rfl⟩ (Nat.le_refl _) (Nat.le_refl _) dX6_byteAt_18
theorem k_X6_byteAt (hF : gX p m c cc nL s args RX6 D clX (tyA dA) K A R rm) (hL0 : L0 ≤ b) (hG : gJ D clX L0 A s.heap (twG dA b σ G0) n H locs) (hl : lv_has ls nL lv) (h1 : 0 + 1 ≤ rm.frames) (h2 : 8 + (2 + 11) + 0 ≤ rm.locals) {p0 : Int32} {γ : Type} {f : Int32 → Option γ} {o : γ} (h : ob1 (t_X6_byteAt σ p0) f = some o) (hc : cells ≤ rm.cells ∧ slots ≤ rm.slots) (hW : (rest.map fun v => v.category).sum ≤ 8) (hdg : decode cc pc = .ok (.invokevirtual 92, 3))
    (kk : ∀ (r : Int32) (H1 : Heap) (locs1 : List Loc), f r = some o → gJ D clX L0 A s.heap (twG dA b σ G0) n H1 locs1 → W p l e R s m args below meth c H1 locs1 cells slots Q (F0 m (pc + 3) ls (.int r :: rest))) : W p l e R s m args below meth c H locs cells slots Q (F0 m pc ls (.int p0 :: .ref b :: rest)) := by
  obtain ⟨r, hr, h⟩ := ob1_e h
  refine g_callV hF hG hl twG_obj (C := RX6) (T := TX6) (N := 35) rfl (w_X6_byteAt hF.2.2.1 hL0 σ p0 hr) (cwV 1 hF.1.2.2.2.2 (lw_V q1967 q1969 qs40 q108 q1970) rfl rfl rfl (by decide +kernel) (g_room hF h1 h2)) rfl rfl hW hdg ⟨by rw [hF.2.2.2.2]; exact hc.1, by rw [hF.2.2.2.2]; exact hc.2⟩ (fun v G1 n1 H1 locs1 hR hG1 => ?_)
  obtain ⟨rfl, rfl, rfl⟩ := hR
  exact kk r H1 locs1 h hG1
/-! isWrong -/
def t_X6_isWrong (σ : TS) : Option (Int32) :=
if (σ.1 28) = 0 then (
some 0)
else (
some 1)
set_option maxRecDepth 100000 in
theorem w_X6_isWrong {l : Launch} {D : va_G} {dA : Nat → ClassId} {K : gKT} {L0 b sz : Nat} {G0 : GH} (hKo : gKo D clX (tyA dA) K) (hL0 : L0 ≤ b) (σ : TS)  {out : Int32} (h : t_X6_isWrong σ = some out) : gMet l yX6_isWrong (ws_ yX6_isWrong cX6_isWrong 1 (some .boolean)) D clX L0 K [.ref b] (twG dA b σ G0) sz 0 0 0 0 (twRI dA b σ G0 sz out) := by
  refine gMet.of (own := RX6) hKo (by decide +kernel) (Nat.le_of_ble_eq_true rfl) rfl ?_
  intro p e R s m args below meth c A Q ls H hF hQ hin hG hl
  have hx := hF.1.1
  have hb := hF.1.2.1
  have hts := hF.1.2.2.2.2
  have hl : lv_has ls 1 [(0, .ref b)] := hl
  unfold t_X6_isWrong at h
  refine lv_aload_n hx hb dX6_isWrong_0 rfl (lv_at hl 0 rfl) ?_
  refine tw_getI hF hG 28 (by decide) q1861 rfl dX6_isWrong_1 ?_
  refine gb_if_eq hx hb dX6_isWrong_4 (tgt := 11) (by decide) h (fun h => ?_) (fun h => ?_)
  · refine lv_iconst (v := 0) hx hb dX6_isWrong_11 (by decide) ?_
    have h := Option.some.inj h
    subst h
    exact g_zret hQ hG (by decide) ⟨rfl, rfl, rfl⟩ (Nat.le_refl _) (Nat.le_refl _) dX6_isWrong_12
  · refine lv_iconst (v := 1) hx hb dX6_isWrong_7 (by decide) ?_
    refine lv_goto hx hb dX6_isWrong_8 (tgt := 12) (by decide) ?_
    have h := Option.some.inj h
    subst h
    exact g_zret hQ hG (by decide) ⟨rfl, rfl, rfl⟩ (Nat.le_refl _) (Nat.le_refl _) dX6_isWrong_12
theorem k_X6_isWrong (hF : gX p m c cc nL s args RX6 D clX (tyA dA) K A R rm) (hL0 : L0 ≤ b) (hG : gJ D clX L0 A s.heap (twG dA b σ G0) n H locs) (hl : lv_has ls nL lv) (h1 : 0 + 1 ≤ rm.frames) (h2 : 8 + (1 + 11) + 0 ≤ rm.locals) {γ : Type} {f : Int32 → Option γ} {o : γ} (h : ob1 (t_X6_isWrong σ) f = some o) (hc : cells ≤ rm.cells ∧ slots ≤ rm.slots) (hW : (rest.map fun v => v.category).sum ≤ 8) (hdg : decode cc pc = .ok (.invokevirtual 112, 3))
    (kk : ∀ (r : Int32) (H1 : Heap) (locs1 : List Loc), f r = some o → gJ D clX L0 A s.heap (twG dA b σ G0) n H1 locs1 → W p l e R s m args below meth c H1 locs1 cells slots Q (F0 m (pc + 3) ls (.int r :: rest))) : W p l e R s m args below meth c H locs cells slots Q (F0 m pc ls (.ref b :: rest)) := by
  obtain ⟨r, hr, h⟩ := ob1_e h
  refine g_callV hF hG hl twG_obj (C := RX6) (T := TX6) (N := 35) rfl (w_X6_isWrong hF.2.2.1 hL0 σ hr) (cwV 0 hF.1.2.2.2.2 (lw_V q1982 q1984 qs42 q108 q1985) rfl rfl rfl (by decide +kernel) (g_room hF h1 h2)) rfl rfl hW hdg ⟨by rw [hF.2.2.2.2]; exact hc.1, by rw [hF.2.2.2.2]; exact hc.2⟩ (fun v G1 n1 H1 locs1 hR hG1 => ?_)
  obtain ⟨rfl, rfl, rfl⟩ := hR
  exact kk r H1 locs1 h hG1
/-! may -/
def t_X6_may (σ : TS) (p0 : Int32) (p1 : Int32) : Option (Int32 × TS) :=
ob1 (
if p0 = 0 then (
if (σ.1 0) = 0 then (
nm (T_sf σ 0 p1) fun (σ1 : TS) =>
some σ1)
else (
some σ))
else (
some σ)) fun (σ2 : TS) =>
if (σ2.1 0) = 0 then (
some (1, σ2))
else (
some (0, σ2))
set_option maxRecDepth 100000 in
theorem w_X6_may {l : Launch} {D : va_G} {dA : Nat → ClassId} {K : gKT} {L0 b sz : Nat} {G0 : GH} (hKo : gKo D clX (tyA dA) K) (hL0 : L0 ≤ b) (σ : TS) (p0 : Int32) (p1 : Int32)  {out : Int32 × TS} (h : t_X6_may σ p0 p1 = some out) : gMet l yX6_may (ws_ yX6_may cX6_may 3 (some .boolean)) D clX L0 K [.ref b, .int p0, .int p1] (twG dA b σ G0) sz 0 0 0 0 (twRI dA b out.2 G0 sz out.1) := by
  refine gMet.of (own := RX6) hKo (by decide +kernel) (Nat.le_of_ble_eq_true rfl) rfl ?_
  intro p e R s m args below meth c A Q ls H hF hQ hin hG hl
  have hx := hF.1.1
  have hb := hF.1.2.1
  have hts := hF.1.2.2.2.2
  have hl : lv_has ls 3 [(0, .ref b), (1, .int p0), (2, .int p1)] := hl
  unfold t_X6_may at h
  refine lv_iload_n hx hb dX6_may_0 rfl (lv_at hl 1 rfl) ?_
  obtain ⟨X1, h, hJ1⟩ := ob1_u h
  have J1 : ∀ (σ2 : TS), X1 = σ2 → ∀ (H : Heap) (locs : List Loc) (ls : Array Slot), gJ D clX L0 A s.heap (twG dA b σ2 G0) sz H locs → lv_has ls 3 [(0, .ref b)] → W p l e R s m args below meth c H locs 0 0 Q (F0 m 16 ls []) := by
    intro σ2 e0 H locs ls hG hl
    have h := hJ1 σ2 e0
    refine lv_aload_n hx hb dX6_may_16 rfl (lv_at hl 0 rfl) ?_
    refine tw_getI hF hG 0 (by decide) q1833 rfl dX6_may_17 ?_
    refine gb_if_ne hx hb dX6_may_20 (tgt := 27) (by decide) h (fun h => ?_) (fun h => ?_)
    · refine lv_iconst (v := 0) hx hb dX6_may_27 (by decide) ?_
      have h := Option.some.inj h
      subst h
      exact g_zret hQ hG (by decide) ⟨rfl, rfl, rfl⟩ (Nat.le_refl _) (Nat.le_refl _) dX6_may_28
    · refine lv_iconst (v := 1) hx hb dX6_may_23 (by decide) ?_
      refine lv_goto hx hb dX6_may_24 (tgt := 28) (by decide) ?_
      have h := Option.some.inj h
      subst h
      exact g_zret hQ hG (by decide) ⟨rfl, rfl, rfl⟩ (Nat.le_refl _) (Nat.le_refl _) dX6_may_28
  refine gb_if_ne hx hb dX6_may_1 (tgt := 16) (by decide) h (fun h => ?_) (fun h => ?_)
  · exact J1 _ (Option.some.inj h).symm _ _ _ hG (lv_sub hl [0] rfl)
  · refine lv_aload_n hx hb dX6_may_4 rfl (lv_at hl 0 rfl) ?_
    refine tw_getI hF hG 0 (by decide) q1833 rfl dX6_may_5 ?_
    refine gb_if_ne hx hb dX6_may_8 (tgt := 16) (by decide) h (fun h => ?_) (fun h => ?_)
    · exact J1 _ (Option.some.inj h).symm _ _ _ hG (lv_sub hl [0] rfl)
    · refine lv_aload_n hx hb dX6_may_11 rfl (lv_at hl 0 rfl) ?_
      refine lv_iload_n hx hb dX6_may_12 rfl (lv_at hl 2 rfl) ?_
      refine tw_putI hF hL0 hG 0 (by decide) q1833 rfl h dX6_may_13 (fun σ1 H locs h hG => ?_)
      exact J1 _ (Option.some.inj h).symm _ _ _ hG (lv_sub hl [0] rfl)
theorem k_X6_may (hF : gX p m c cc nL s args RX6 D clX (tyA dA) K A R rm) (hL0 : L0 ≤ b) (hG : gJ D clX L0 A s.heap (twG dA b σ G0) n H locs) (hl : lv_has ls nL lv) (h1 : 0 + 1 ≤ rm.frames) (h2 : 8 + (3 + 11) + 0 ≤ rm.locals) {p0 : Int32} {p1 : Int32} {γ : Type} {f : Int32 → TS → Option γ} {o : γ} (h : ob2 (t_X6_may σ p0 p1) f = some o) (hc : cells ≤ rm.cells ∧ slots ≤ rm.slots) (hW : (rest.map fun v => v.category).sum ≤ 8) (hdg : decode cc pc = .ok (.invokevirtual 78, 3))
    (kk : ∀ (r : Int32) (σ1 : TS) (H1 : Heap) (locs1 : List Loc), f r σ1 = some o → gJ D clX L0 A s.heap (twG dA b σ1 G0) n H1 locs1 → W p l e R s m args below meth c H1 locs1 cells slots Q (F0 m (pc + 3) ls (.int r :: rest))) : W p l e R s m args below meth c H locs cells slots Q (F0 m pc ls (.int p1 :: .int p0 :: .ref b :: rest)) := by
  obtain ⟨r, r2, hr, h⟩ := ob2_e h
  refine g_callV hF hG hl twG_obj (C := RX6) (T := TX6) (N := 35) rfl (w_X6_may hF.2.2.1 hL0 σ p0 p1 hr) (cwV 2 hF.1.2.2.2.2 (lw_V q1948 q1950 qs38 q108 q1951) rfl rfl rfl (by decide +kernel) (g_room hF h1 h2)) rfl rfl hW hdg ⟨by rw [hF.2.2.2.2]; exact hc.1, by rw [hF.2.2.2.2]; exact hc.2⟩ (fun v G1 n1 H1 locs1 hR hG1 => ?_)
  obtain ⟨rfl, rfl, rfl⟩ := hR
  exact kk r r2 H1 locs1 h hG1
/-! truncate -/
def t_X6_truncate (σ : TS) (p0 : Int32) : Option (Int32 × TS) :=
nm (T_sf σ 0 0) fun (σ1 : TS) =>
ob1 (t_X6_isIn (p0.toInt64) 0 ((σ1.1 23).toInt64)) fun (v2 : Int32) =>
ob2 (t_X6_may σ1 v2 1) fun (v3 : Int32) (σ4 : TS) =>
if v3 = 0 then (
some (0, σ4))
else (
nm (T_sf σ4 23 p0) fun (σ5 : TS) =>
some (p0, σ5))
set_option maxRecDepth 100000 in
theorem w_X6_truncate {l : Launch} {D : va_G} {dA : Nat → ClassId} {K : gKT} {L0 b sz : Nat} {G0 : GH} (hKo : gKo D clX (tyA dA) K) (hL0 : L0 ≤ b) (σ : TS) (p0 : Int32)  {out : Int32 × TS} (h : t_X6_truncate σ p0 = some out) : gMet l yX6_truncate (ws_ yX6_truncate cX6_truncate 2 (some .int)) D clX L0 K [.ref b, .int p0] (twG dA b σ G0) sz 1 25 0 0 (twRI dA b out.2 G0 sz out.1) := by
  refine gMet.of (own := RX6) hKo (by decide +kernel) (Nat.le_of_ble_eq_true rfl) rfl ?_
  intro p e R s m args below meth c A Q ls H hF hQ hin hG hl
  have hx := hF.1.1
  have hb := hF.1.2.1
  have hts := hF.1.2.2.2.2
  have hl : lv_has ls 2 [(0, .ref b), (1, .int p0)] := hl
  unfold t_X6_truncate at h
  refine lv_aload_n hx hb dX6_truncate_0 rfl (lv_at hl 0 rfl) ?_
  refine lv_iconst (v := 0) hx hb dX6_truncate_1 (by decide) ?_
  refine tw_putI hF hL0 hG 0 (by decide) q1833 rfl h dX6_truncate_2 (fun σ1 H locs h hG => ?_)
  refine lv_aload_n hx hb dX6_truncate_5 rfl (lv_at hl 0 rfl) ?_
  refine lv_iload_n hx hb dX6_truncate_6 rfl (lv_at hl 1 rfl) ?_
  refine lv_i2l hx hb dX6_truncate_7 rfl ?_
  refine lv_lconst (v := 0) hx hb dX6_truncate_8 (by decide) ?_
  refine lv_aload_n hx hb dX6_truncate_9 rfl (lv_at hl 0 rfl) ?_
  refine tw_getI hF hG 23 (by decide) q1856 rfl dX6_truncate_10 ?_
  refine lv_i2l hx hb dX6_truncate_13 rfl ?_
  refine k_X6_isIn hF hL0 hG hl (Nat.le_of_ble_eq_true rfl) (Nat.le_of_ble_eq_true rfl) h ⟨Nat.le_of_ble_eq_true rfl, Nat.le_of_ble_eq_true rfl⟩ (Nat.le_of_ble_eq_true rfl) dX6_truncate_14 (fun v2 H locs h hG => ?_)
  refine lv_iconst (v := 1) hx hb dX6_truncate_17 (by decide) ?_
  refine k_X6_may hF hL0 hG hl (Nat.le_of_ble_eq_true rfl) (Nat.le_of_ble_eq_true rfl) h ⟨Nat.le_of_ble_eq_true rfl, Nat.le_of_ble_eq_true rfl⟩ (Nat.le_of_ble_eq_true rfl) dX6_truncate_18 (fun v3 σ4 H locs h hG => ?_)
  refine gb_if_ne hx hb dX6_truncate_21 (tgt := 26) (by decide) h (fun h => ?_) (fun h => ?_)
  · refine lv_aload_n hx hb dX6_truncate_26 rfl (lv_at hl 0 rfl) ?_
    refine lv_iload_n hx hb dX6_truncate_27 rfl (lv_at hl 1 rfl) ?_
    refine tw_putI hF hL0 hG 23 (by decide) q1856 rfl h dX6_truncate_28 (fun σ5 H locs h hG => ?_)
    refine lv_iload_n hx hb dX6_truncate_31 rfl (lv_at hl 1 rfl) ?_
    have h := Option.some.inj h
    subst h
    exact g_iret hQ hG ⟨rfl, rfl, rfl⟩ (Nat.le_refl _) (Nat.le_refl _) dX6_truncate_32
  · refine lv_iconst (v := 0) hx hb dX6_truncate_24 (by decide) ?_
    have h := Option.some.inj h
    subst h
    exact g_iret hQ hG ⟨rfl, rfl, rfl⟩ (Nat.le_refl _) (Nat.le_refl _) dX6_truncate_25
/-! append -/
def t_X6_append_L5 (p0 : Int32) (p1 : Int32) (p2 : Int32) (p3 : Int32) (p4 : Int32) : Nat → Int32 → TS → Option (TS)
  | 0, _, _ => none
  | n + 1, y6, σ7 =>
    if 20 ≤ y6 then (
    some σ7)
    else (
    ob1 (
    if 4 ≤ y6 then (
    if 8 ≤ y6 then (
    if 12 ≤ y6 then (
    if 16 ≤ y6 then (
    some p4)
    else (
    some p3))
    else (
    some p2))
    else (
    some p1))
    else (
    some p0)) fun (z8 : Int32) =>
    ob1 (T_wr σ7 11 ((σ7.1 23) + y6) ((z8 >>> ((24 - (8 * (y6 - y6 / 4 * 4))) &&& 31)) &&& 255)) fun (σ9 : TS) =>
    nm (y6 + 1) fun (x10 : Int32) =>
    t_X6_append_L5 p0 p1 p2 p3 p4 n x10 σ9)
def t_X6_append (σ : TS) (p0 : Int32) (p1 : Int32) (p2 : Int32) (p3 : Int32) (p4 : Int32) : Option (Int32 × TS) :=
nm (T_sf σ 0 0) fun (σ1 : TS) =>
ob1 (
if 900 < ((σ1.1 23) + 20) then (
some (0 : Int32))
else (
some (1 : Int32))) fun (z2 : Int32) =>
ob2 (t_X6_may σ1 z2 1) fun (v3 : Int32) (σ4 : TS) =>
if v3 = 0 then (
some (0, σ4))
else (
ob1 (
t_X6_append_L5 p0 p1 p2 p3 p4 4096 0 σ4) fun (σ11 : TS) =>
nm (T_sf σ11 23 ((σ11.1 23) + 20)) fun (σ12 : TS) =>
some ((σ12.1 23), σ12))
set_option maxRecDepth 100000 in
theorem w_X6_append {l : Launch} {D : va_G} {dA : Nat → ClassId} {K : gKT} {L0 b sz : Nat} {G0 : GH} (hKo : gKo D clX (tyA dA) K) (hL0 : L0 ≤ b) (σ : TS) (p0 : Int32) (p1 : Int32) (p2 : Int32) (p3 : Int32) (p4 : Int32)  {out : Int32 × TS} (h : t_X6_append σ p0 p1 p2 p3 p4 = some out) : gMet l yX6_append (ws_ yX6_append cX6_append 8 (some .int)) D clX L0 K [.ref b, .int p0, .int p1, .int p2, .int p3, .int p4] (twG dA b σ G0) sz 1 22 0 0 (twRI dA b out.2 G0 sz out.1) := by
  refine gMet.of (own := RX6) hKo (by decide +kernel) (Nat.le_of_ble_eq_true rfl) rfl ?_
  intro p e R s m args below meth c A Q ls H hF hQ hin hG hl
  have hx := hF.1.1
  have hb := hF.1.2.1
  have hts := hF.1.2.2.2.2
  have hl : lv_has ls 8 [(0, .ref b), (1, .int p0), (2, .int p1), (3, .int p2), (4, .int p3), (5, .int p4)] := hl
  unfold t_X6_append at h
  refine lv_aload_n hx hb dX6_append_0 rfl (lv_at hl 0 rfl) ?_
  refine lv_iconst (v := 0) hx hb dX6_append_1 (by decide) ?_
  refine tw_putI hF hL0 hG 0 (by decide) q1833 rfl h dX6_append_2 (fun σ1 H locs h hG => ?_)
  refine lv_aload_n hx hb dX6_append_5 rfl (lv_at hl 0 rfl) ?_
  refine lv_aload_n hx hb dX6_append_6 rfl (lv_at hl 0 rfl) ?_
  refine tw_getI hF hG 23 (by decide) q1856 rfl dX6_append_7 ?_
  refine lv_bipush (v := 20) hx hb dX6_append_10 (by decide) ?_
  refine lv_iadd hx hb dX6_append_12 ?_
  refine lv_sipush (v := 900) hx hb dX6_append_13 (by decide) ?_
  obtain ⟨X1, h, hJ1⟩ := ob1_u h
  have J1 : ∀ (z2 : Int32), X1 = z2 → ∀ (H : Heap) (locs : List Loc) (ls : Array Slot), gJ D clX L0 A s.heap (twG dA b σ1 G0) sz H locs → lv_has ls 8 [(0, .ref b), (1, .int p0), (2, .int p1), (3, .int p2), (4, .int p3), (5, .int p4)] → W p l e R s m args below meth c H locs 0 0 Q (F0 m 24 ls [.int z2, .ref b]) := by
    intro z2 e0 H locs ls hG hl
    have h := hJ1 z2 e0
    refine lv_iconst (v := 1) hx hb dX6_append_24 (by decide) ?_
    refine k_X6_may hF hL0 hG hl (Nat.le_of_ble_eq_true rfl) (Nat.le_of_ble_eq_true rfl) h ⟨Nat.le_of_ble_eq_true rfl, Nat.le_of_ble_eq_true rfl⟩ (Nat.le_of_ble_eq_true rfl) dX6_append_25 (fun v3 σ4 H locs h hG => ?_)
    refine gb_if_ne hx hb dX6_append_28 (tgt := 33) (by decide) h (fun h => ?_) (fun h => ?_)
    · refine lv_iconst (v := 0) hx hb dX6_append_33 (by decide) ?_
      refine lv_istore hx hb dX6_append_34 hl (Nat.le_of_ble_eq_true rfl) (lv' := [(6, .int 0), (0, .ref b), (1, .int p0), (2, .int p1), (3, .int p2), (4, .int p3), (5, .int p4)]) rfl (fun ls hl => ?_)
      obtain ⟨X2, h, hJ2⟩ := ob1_u h
      have J2 : ∀ (σ11 : TS), X2 = σ11 → ∀ (H : Heap) (locs : List Loc) (ls : Array Slot), gJ D clX L0 A s.heap (twG dA b σ11 G0) sz H locs → lv_has ls 8 [(0, .ref b)] → W p l e R s m args below meth c H locs 0 0 Q (F0 m 126 ls []) := by
        intro σ11 e0 H locs ls hG hl
        have h := hJ2 σ11 e0
        refine lv_aload_n hx hb dX6_append_126 rfl (lv_at hl 0 rfl) ?_
        refine lv_dup hx hb dX6_append_127 rfl ?_
        refine tw_getI hF hG 23 (by decide) q1856 rfl dX6_append_128 ?_
        refine lv_bipush (v := 20) hx hb dX6_append_131 (by decide) ?_
        refine lv_iadd hx hb dX6_append_133 ?_
        refine tw_putI hF hL0 hG 23 (by decide) q1856 rfl h dX6_append_134 (fun σ12 H locs h hG => ?_)
        refine lv_aload_n hx hb dX6_append_137 rfl (lv_at hl 0 rfl) ?_
        refine tw_getI hF hG 23 (by decide) q1856 rfl dX6_append_138 ?_
        have h := Option.some.inj h
        subst h
        exact g_iret hQ hG ⟨rfl, rfl, rfl⟩ (Nat.le_refl _) (Nat.le_refl _) dX6_append_141
      have LL5 : ∀ (n : Nat) (y6 : Int32) (σ7 : TS), t_X6_append_L5 p0 p1 p2 p3 p4 n y6 σ7 = some X2 → ∀ (H : Heap) (locs : List Loc) (ls : Array Slot), gJ D clX L0 A s.heap (twG dA b σ7 G0) sz H locs → lv_has ls 8 [(0, .ref b), (1, .int p0), (2, .int p1), (3, .int p2), (4, .int p3), (5, .int p4), (6, .int y6)] → W p l e R s m args below meth c H locs 0 0 Q (F0 m 36 ls []) := by
        intro n
        induction n with
        | zero =>
          intro y6 σ7 h
          rw [t_X6_append_L5] at h
          cases h
        | succ n ihL5 =>
          intro y6 σ7 h H locs ls hG hl
          rw [t_X6_append_L5] at h
          refine lv_iload hx hb dX6_append_36 (lv_at hl 6 rfl) ?_
          refine lv_bipush (v := 20) hx hb dX6_append_38 (by decide) ?_
          refine gb_icmp_ge hx hb dX6_append_40 (tgt := 126) (by decide) h (fun h => ?_) (fun h => ?_)
          · exact J2 _ (Option.some.inj h).symm _ _ _ hG (lv_sub hl [0] rfl)
          · refine lv_iload hx hb dX6_append_43 (lv_at hl 6 rfl) ?_
            refine lv_iconst (v := 4) hx hb dX6_append_45 (by decide) ?_
            obtain ⟨X3, h, hJ3⟩ := ob1_u h
            have J3 : ∀ (z8 : Int32), X3 = z8 → ∀ (H : Heap) (locs : List Loc) (ls : Array Slot), gJ D clX L0 A s.heap (twG dA b σ7 G0) sz H locs → lv_has ls 8 [(0, .ref b), (1, .int p0), (2, .int p1), (3, .int p2), (4, .int p3), (5, .int p4), (6, .int y6)] → W p l e R s m args below meth c H locs 0 0 Q (F0 m 89 ls [.int z8]) := by
              intro z8 e0 H locs ls hG hl
              have h := hJ3 z8 e0
              refine lv_istore hx hb dX6_append_89 hl (Nat.le_of_ble_eq_true rfl) (lv' := [(7, .int z8), (0, .ref b), (1, .int p0), (2, .int p1), (3, .int p2), (4, .int p3), (5, .int p4), (6, .int y6)]) rfl (fun ls hl => ?_)
              refine lv_aload_n hx hb dX6_append_91 rfl (lv_at hl 1 rfl) ?_
              refine tw_getR hF hG 16 11 (by decide) q1849 rfl dX6_append_92 ?_
              refine lv_aload_n hx hb dX6_append_95 rfl (lv_at hl 1 rfl) ?_
              refine tw_getI hF hG 23 (by decide) q1856 rfl dX6_append_96 ?_
              refine lv_iload hx hb dX6_append_99 (lv_at hl 7 rfl) ?_
              refine lv_iadd hx hb dX6_append_101 ?_
              refine lv_iload hx hb dX6_append_102 (lv_at hl 0 rfl) ?_
              refine lv_bipush (v := 24) hx hb dX6_append_104 (by decide) ?_
              refine lv_bipush (v := 8) hx hb dX6_append_106 (by decide) ?_
              refine lv_iload hx hb dX6_append_108 (lv_at hl 7 rfl) ?_
              refine lv_iconst (v := 4) hx hb dX6_append_110 (by decide) ?_
              refine lv_irem hx hb dX6_append_111 (by decide) ?_
              refine lv_imul hx hb dX6_append_112 ?_
              refine lv_isub hx hb dX6_append_113 ?_
              refine lv_ishr hx hb dX6_append_114 ?_
              refine lv_sipush (v := 255) hx hb dX6_append_115 (by decide) ?_
              refine lv_iand hx hb dX6_append_118 ?_
              refine tw_wr hF hL0 hG (j := 11) (by decide) h dX6_append_119 (fun σ9 H locs h hG => ?_)
              refine gb_iinc (k' := 1) hx hb dX6_append_120 hl (k := 7) rfl (by decide) (Nat.le_of_ble_eq_true rfl) h (fun x10 ls h hl => ?_)
              have hl : lv_has ls 8 [(6, .int x10), (7, .int z8), (0, .ref b), (1, .int p0), (2, .int p1), (3, .int p2), (4, .int p3), (5, .int p4)] := hl
              refine lv_goto hx hb dX6_append_123 (tgt := 36) (by decide) ?_
              exact ihL5 _ _ h _ _ _ hG (lv_sub hl [2, 3, 4, 5, 6, 7, 0] rfl)
            refine gb_icmp_ge hx hb dX6_append_46 (tgt := 53) (by decide) h (fun h => ?_) (fun h => ?_)
            · refine lv_iload hx hb dX6_append_53 (lv_at hl 6 rfl) ?_
              refine lv_bipush (v := 8) hx hb dX6_append_55 (by decide) ?_
              refine gb_icmp_ge hx hb dX6_append_57 (tgt := 64) (by decide) h (fun h => ?_) (fun h => ?_)
              · refine lv_iload hx hb dX6_append_64 (lv_at hl 6 rfl) ?_
                refine lv_bipush (v := 12) hx hb dX6_append_66 (by decide) ?_
                refine gb_icmp_ge hx hb dX6_append_68 (tgt := 75) (by decide) h (fun h => ?_) (fun h => ?_)
                · refine lv_iload hx hb dX6_append_75 (lv_at hl 6 rfl) ?_
                  refine lv_bipush (v := 16) hx hb dX6_append_77 (by decide) ?_
                  refine gb_icmp_ge hx hb dX6_append_79 (tgt := 87) (by decide) h (fun h => ?_) (fun h => ?_)
                  · refine lv_iload hx hb dX6_append_87 (lv_at hl 5 rfl) ?_
                    exact J3 _ (Option.some.inj h).symm _ _ _ hG hl
                  · refine lv_iload hx hb dX6_append_82 (lv_at hl 4 rfl) ?_
                    refine lv_goto hx hb dX6_append_84 (tgt := 89) (by decide) ?_
                    exact J3 _ (Option.some.inj h).symm _ _ _ hG hl
                · refine lv_iload_n hx hb dX6_append_71 rfl (lv_at hl 3 rfl) ?_
                  refine lv_goto hx hb dX6_append_72 (tgt := 89) (by decide) ?_
                  exact J3 _ (Option.some.inj h).symm _ _ _ hG hl
              · refine lv_iload_n hx hb dX6_append_60 rfl (lv_at hl 2 rfl) ?_
                refine lv_goto hx hb dX6_append_61 (tgt := 89) (by decide) ?_
                exact J3 _ (Option.some.inj h).symm _ _ _ hG hl
            · refine lv_iload_n hx hb dX6_append_49 rfl (lv_at hl 1 rfl) ?_
              refine lv_goto hx hb dX6_append_50 (tgt := 89) (by decide) ?_
              exact J3 _ (Option.some.inj h).symm _ _ _ hG hl
      exact LL5 _ _ _ h _ _ _ hG (lv_sub hl [1, 2, 3, 4, 5, 6, 0] rfl)
    · refine lv_iconst (v := 0) hx hb dX6_append_31 (by decide) ?_
      have h := Option.some.inj h
      subst h
      exact g_iret hQ hG ⟨rfl, rfl, rfl⟩ (Nat.le_refl _) (Nat.le_refl _) dX6_append_32
  refine gb_icmp_gt hx hb dX6_append_16 (tgt := 23) (by decide) h (fun h => ?_) (fun h => ?_)
  · refine lv_iconst (v := 0) hx hb dX6_append_23 (by decide) ?_
    exact J1 _ (Option.some.inj h).symm _ _ _ hG hl
  · refine lv_iconst (v := 1) hx hb dX6_append_19 (by decide) ?_
    refine lv_goto hx hb dX6_append_20 (tgt := 24) (by decide) ?_
    exact J1 _ (Option.some.inj h).symm _ _ _ hG hl
/-! token -/
def t_X6_token_L1 : Nat → TS → Option (TS)
  | 0, _ => none
  | n + 1, σ2 =>
    ob1 (t_X6_byteAt σ2 (σ2.1 25)) fun (v3 : Int32) =>
    if v3 = 10 then (
    nm (T_sf σ2 25 ((σ2.1 25) + 1)) fun (σ4 : TS) =>
    t_X6_token_L1 n σ4)
    else (
    ob1 (t_X6_byteAt σ2 (σ2.1 25)) fun (v5 : Int32) =>
    if v5 = 32 then (
    nm (T_sf σ2 25 ((σ2.1 25) + 1)) fun (σ6 : TS) =>
    t_X6_token_L1 n σ6)
    else (
    some σ2))
def t_X6_token_L15 : Nat → TS → Option (TS)
  | 0, _ => none
  | n + 1, σ16 =>
    ob1 (t_X6_byteAt σ16 (σ16.1 25)) fun (v17 : Int32) =>
    ob1 (t_X6_isDigit v17) fun (v18 : Int32) =>
    if v18 = 0 then (
    some σ16)
    else (
    nm (T_sf σ16 25 ((σ16.1 25) + 1)) fun (σ19 : TS) =>
    t_X6_token_L15 n σ19)
def t_X6_token_L22 : Nat → TS → Option (TS)
  | 0, _ => none
  | n + 1, σ23 =>
    ob1 (t_X6_byteAt σ23 (σ23.1 25)) fun (v24 : Int32) =>
    ob1 (t_X6_isLetter v24) fun (v25 : Int32) =>
    if v25 = 0 then (
    some σ23)
    else (
    nm (T_sf σ23 25 ((σ23.1 25) + 1)) fun (σ26 : TS) =>
    t_X6_token_L22 n σ26)
def t_X6_token (σ : TS) : Option (TS) :=
ob1 (
t_X6_token_L1 4096 σ) fun (σ7 : TS) =>
nm (T_sf σ7 26 (σ7.1 25)) fun (σ8 : TS) =>
ob1 (t_X6_byteAt σ8 (σ8.1 25)) fun (v9 : Int32) =>
if v9 = (-1) then (
nm (T_sf σ8 27 0) fun (σ29 : TS) =>
some σ29)
else (
ob1 (t_X6_isLetter v9) fun (v10 : Int32) =>
if v10 = 0 then (
ob1 (t_X6_isDigit v9) fun (v11 : Int32) =>
if v11 = 0 then (
nm (T_sf σ8 25 ((σ8.1 25) + 1)) fun (σ12 : TS) =>
ob1 (
if v9 = 59 then (
some (3 : Int32))
else (
some (4 : Int32))) fun (z13 : Int32) =>
nm (T_sf σ12 27 z13) fun (σ14 : TS) =>
some σ14)
else (
ob1 (
t_X6_token_L15 4096 σ8) fun (σ20 : TS) =>
nm (T_sf σ20 27 2) fun (σ21 : TS) =>
some σ21))
else (
ob1 (
t_X6_token_L22 4096 σ8) fun (σ27 : TS) =>
nm (T_sf σ27 27 1) fun (σ28 : TS) =>
some σ28))
set_option maxRecDepth 100000 in
theorem w_X6_token {l : Launch} {D : va_G} {dA : Nat → ClassId} {K : gKT} {L0 b sz : Nat} {G0 : GH} (hKo : gKo D clX (tyA dA) K) (hL0 : L0 ≤ b) (σ : TS)  {out : TS} (h : t_X6_token σ = some out) : gMet l yX6_token (ws_ yX6_token cX6_token 2 none) D clX L0 K [.ref b] (twG dA b σ G0) sz 1 21 0 0 (twRV dA b out G0 sz) := by
  refine gMet.of (own := RX6) hKo (by decide +kernel) (Nat.le_of_ble_eq_true rfl) rfl ?_
  intro p e R s m args below meth c A Q ls H hF hQ hin hG hl
  have hx := hF.1.1
  have hb := hF.1.2.1
  have hts := hF.1.2.2.2.2
  have hl : lv_has ls 2 [(0, .ref b)] := hl
  unfold t_X6_token at h
  obtain ⟨X1, h, hJ1⟩ := ob1_u h
  have J1 : ∀ (σ7 : TS), X1 = σ7 → ∀ (H : Heap) (locs : List Loc) (ls : Array Slot), gJ D clX L0 A s.heap (twG dA b σ7 G0) sz H locs → lv_has ls 2 [(0, .ref b)] → W p l e R s m args below meth c H locs 0 0 Q (F0 m 39 ls []) := by
    intro σ7 e0 H locs ls hG hl
    have h := hJ1 σ7 e0
    refine lv_aload_n hx hb dX6_token_39 rfl (lv_at hl 0 rfl) ?_
    refine lv_aload_n hx hb dX6_token_40 rfl (lv_at hl 0 rfl) ?_
    refine tw_getI hF hG 25 (by decide) q1858 rfl dX6_token_41 ?_
    refine tw_putI hF hL0 hG 26 (by decide) q1859 rfl h dX6_token_44 (fun σ8 H locs h hG => ?_)
    refine lv_aload_n hx hb dX6_token_47 rfl (lv_at hl 0 rfl) ?_
    refine lv_aload_n hx hb dX6_token_48 rfl (lv_at hl 0 rfl) ?_
    refine tw_getI hF hG 25 (by decide) q1858 rfl dX6_token_49 ?_
    refine k_X6_byteAt hF hL0 hG hl (Nat.le_of_ble_eq_true rfl) (Nat.le_of_ble_eq_true rfl) h ⟨Nat.le_of_ble_eq_true rfl, Nat.le_of_ble_eq_true rfl⟩ (Nat.le_of_ble_eq_true rfl) dX6_token_52 (fun v9 H locs h hG => ?_)
    refine lv_istore_n hx hb dX6_token_55 rfl hl (Nat.le_of_ble_eq_true rfl) (lv' := [(1, .int v9), (0, .ref b)]) rfl (fun ls hl => ?_)
    refine lv_iload_n hx hb dX6_token_56 rfl (lv_at hl 0 rfl) ?_
    refine lv_iconst (v := (-1)) hx hb dX6_token_57 (by decide) ?_
    refine gb_icmp_ne hx hb dX6_token_58 (tgt := 69) (by decide) h (fun h => ?_) (fun h => ?_)
    · refine lv_iload_n hx hb dX6_token_69 rfl (lv_at hl 0 rfl) ?_
      refine k_X6_isLetter hF hL0 hG hl (Nat.le_of_ble_eq_true rfl) (Nat.le_of_ble_eq_true rfl) h ⟨Nat.le_of_ble_eq_true rfl, Nat.le_of_ble_eq_true rfl⟩ (Nat.le_of_ble_eq_true rfl) dX6_token_70 (fun v10 H locs h hG => ?_)
      refine gb_if_eq hx hb dX6_token_73 (tgt := 111) (by decide) h (fun h => ?_) (fun h => ?_)
      · refine lv_iload_n hx hb dX6_token_111 rfl (lv_at hl 0 rfl) ?_
        refine k_X6_isDigit hF hL0 hG hl (Nat.le_of_ble_eq_true rfl) (Nat.le_of_ble_eq_true rfl) h ⟨Nat.le_of_ble_eq_true rfl, Nat.le_of_ble_eq_true rfl⟩ (Nat.le_of_ble_eq_true rfl) dX6_token_112 (fun v11 H locs h hG => ?_)
        refine gb_if_eq hx hb dX6_token_115 (tgt := 153) (by decide) h (fun h => ?_) (fun h => ?_)
        · refine lv_aload_n hx hb dX6_token_153 rfl (lv_at hl 1 rfl) ?_
          refine lv_dup hx hb dX6_token_154 rfl ?_
          refine tw_getI hF hG 25 (by decide) q1858 rfl dX6_token_155 ?_
          refine lv_iconst (v := 1) hx hb dX6_token_158 (by decide) ?_
          refine lv_iadd hx hb dX6_token_159 ?_
          refine tw_putI hF hL0 hG 25 (by decide) q1858 rfl h dX6_token_160 (fun σ12 H locs h hG => ?_)
          refine lv_aload_n hx hb dX6_token_163 rfl (lv_at hl 1 rfl) ?_
          refine lv_iload_n hx hb dX6_token_164 rfl (lv_at hl 0 rfl) ?_
          refine lv_bipush (v := 59) hx hb dX6_token_165 (by decide) ?_
          obtain ⟨X2, h, hJ2⟩ := ob1_u h
          have J2 : ∀ (z13 : Int32), X2 = z13 → ∀ (H : Heap) (locs : List Loc) (ls : Array Slot), gJ D clX L0 A s.heap (twG dA b σ12 G0) sz H locs → lv_has ls 2 [] → W p l e R s m args below meth c H locs 0 0 Q (F0 m 175 ls [.int z13, .ref b]) := by
            intro z13 e0 H locs ls hG hl
            have h := hJ2 z13 e0
            refine tw_putI hF hL0 hG 27 (by decide) q1860 rfl h dX6_token_175 (fun σ14 H locs h hG => ?_)
            have h := Option.some.inj h
            subst h
            exact g_vret hQ hG ⟨rfl, rfl, rfl⟩ (Nat.le_refl _) (Nat.le_refl _) dX6_token_178
          refine gb_icmp_ne hx hb dX6_token_167 (tgt := 174) (by decide) h (fun h => ?_) (fun h => ?_)
          · refine lv_iconst (v := 4) hx hb dX6_token_174 (by decide) ?_
            exact J2 _ (Option.some.inj h).symm _ _ _ hG (lv_sub hl [] rfl)
          · refine lv_iconst (v := 3) hx hb dX6_token_170 (by decide) ?_
            refine lv_goto hx hb dX6_token_171 (tgt := 175) (by decide) ?_
            exact J2 _ (Option.some.inj h).symm _ _ _ hG (lv_sub hl [] rfl)
        · obtain ⟨X3, h, hJ3⟩ := ob1_u h
          have J3 : ∀ (σ20 : TS), X3 = σ20 → ∀ (H : Heap) (locs : List Loc) (ls : Array Slot), gJ D clX L0 A s.heap (twG dA b σ20 G0) sz H locs → lv_has ls 2 [(0, .ref b)] → W p l e R s m args below meth c H locs 0 0 Q (F0 m 145 ls []) := by
            intro σ20 e0 H locs ls hG hl
            have h := hJ3 σ20 e0
            refine lv_aload_n hx hb dX6_token_145 rfl (lv_at hl 0 rfl) ?_
            refine lv_iconst (v := 2) hx hb dX6_token_146 (by decide) ?_
            refine tw_putI hF hL0 hG 27 (by decide) q1860 rfl h dX6_token_147 (fun σ21 H locs h hG => ?_)
            refine lv_goto hx hb dX6_token_150 (tgt := 178) (by decide) ?_
            have h := Option.some.inj h
            subst h
            exact g_vret hQ hG ⟨rfl, rfl, rfl⟩ (Nat.le_refl _) (Nat.le_refl _) dX6_token_178
          have LL15 : ∀ (n : Nat) (σ16 : TS), t_X6_token_L15 n σ16 = some X3 → ∀ (H : Heap) (locs : List Loc) (ls : Array Slot), gJ D clX L0 A s.heap (twG dA b σ16 G0) sz H locs → lv_has ls 2 [(0, .ref b)] → W p l e R s m args below meth c H locs 0 0 Q (F0 m 118 ls []) := by
            intro n
            induction n with
            | zero =>
              intro σ16 h
              rw [t_X6_token_L15] at h
              cases h
            | succ n ihL15 =>
              intro σ16 h H locs ls hG hl
              rw [t_X6_token_L15] at h
              refine lv_aload_n hx hb dX6_token_118 rfl (lv_at hl 0 rfl) ?_
              refine lv_aload_n hx hb dX6_token_119 rfl (lv_at hl 0 rfl) ?_
              refine tw_getI hF hG 25 (by decide) q1858 rfl dX6_token_120 ?_
              refine k_X6_byteAt hF hL0 hG hl (Nat.le_of_ble_eq_true rfl) (Nat.le_of_ble_eq_true rfl) h ⟨Nat.le_of_ble_eq_true rfl, Nat.le_of_ble_eq_true rfl⟩ (Nat.le_of_ble_eq_true rfl) dX6_token_123 (fun v17 H locs h hG => ?_)
              refine k_X6_isDigit hF hL0 hG hl (Nat.le_of_ble_eq_true rfl) (Nat.le_of_ble_eq_true rfl) h ⟨Nat.le_of_ble_eq_true rfl, Nat.le_of_ble_eq_true rfl⟩ (Nat.le_of_ble_eq_true rfl) dX6_token_126 (fun v18 H locs h hG => ?_)
              refine gb_if_eq hx hb dX6_token_129 (tgt := 145) (by decide) h (fun h => ?_) (fun h => ?_)
              · exact J3 _ (Option.some.inj h).symm _ _ _ hG hl
              · refine lv_aload_n hx hb dX6_token_132 rfl (lv_at hl 0 rfl) ?_
                refine lv_dup hx hb dX6_token_133 rfl ?_
                refine tw_getI hF hG 25 (by decide) q1858 rfl dX6_token_134 ?_
                refine lv_iconst (v := 1) hx hb dX6_token_137 (by decide) ?_
                refine lv_iadd hx hb dX6_token_138 ?_
                refine tw_putI hF hL0 hG 25 (by decide) q1858 rfl h dX6_token_139 (fun σ19 H locs h hG => ?_)
                refine lv_goto hx hb dX6_token_142 (tgt := 118) (by decide) ?_
                exact ihL15 _ h _ _ _ hG hl
          exact LL15 _ _ h _ _ _ hG (lv_sub hl [1] rfl)
      · obtain ⟨X4, h, hJ4⟩ := ob1_u h
        have J4 : ∀ (σ27 : TS), X4 = σ27 → ∀ (H : Heap) (locs : List Loc) (ls : Array Slot), gJ D clX L0 A s.heap (twG dA b σ27 G0) sz H locs → lv_has ls 2 [(0, .ref b)] → W p l e R s m args below meth c H locs 0 0 Q (F0 m 103 ls []) := by
          intro σ27 e0 H locs ls hG hl
          have h := hJ4 σ27 e0
          refine lv_aload_n hx hb dX6_token_103 rfl (lv_at hl 0 rfl) ?_
          refine lv_iconst (v := 1) hx hb dX6_token_104 (by decide) ?_
          refine tw_putI hF hL0 hG 27 (by decide) q1860 rfl h dX6_token_105 (fun σ28 H locs h hG => ?_)
          refine lv_goto hx hb dX6_token_108 (tgt := 178) (by decide) ?_
          have h := Option.some.inj h
          subst h
          exact g_vret hQ hG ⟨rfl, rfl, rfl⟩ (Nat.le_refl _) (Nat.le_refl _) dX6_token_178
        have LL22 : ∀ (n : Nat) (σ23 : TS), t_X6_token_L22 n σ23 = some X4 → ∀ (H : Heap) (locs : List Loc) (ls : Array Slot), gJ D clX L0 A s.heap (twG dA b σ23 G0) sz H locs → lv_has ls 2 [(0, .ref b)] → W p l e R s m args below meth c H locs 0 0 Q (F0 m 76 ls []) := by
          intro n
          induction n with
          | zero =>
            intro σ23 h
            rw [t_X6_token_L22] at h
            cases h
          | succ n ihL22 =>
            intro σ23 h H locs ls hG hl
            rw [t_X6_token_L22] at h
            refine lv_aload_n hx hb dX6_token_76 rfl (lv_at hl 0 rfl) ?_
            refine lv_aload_n hx hb dX6_token_77 rfl (lv_at hl 0 rfl) ?_
            refine tw_getI hF hG 25 (by decide) q1858 rfl dX6_token_78 ?_
            refine k_X6_byteAt hF hL0 hG hl (Nat.le_of_ble_eq_true rfl) (Nat.le_of_ble_eq_true rfl) h ⟨Nat.le_of_ble_eq_true rfl, Nat.le_of_ble_eq_true rfl⟩ (Nat.le_of_ble_eq_true rfl) dX6_token_81 (fun v24 H locs h hG => ?_)
            refine k_X6_isLetter hF hL0 hG hl (Nat.le_of_ble_eq_true rfl) (Nat.le_of_ble_eq_true rfl) h ⟨Nat.le_of_ble_eq_true rfl, Nat.le_of_ble_eq_true rfl⟩ (Nat.le_of_ble_eq_true rfl) dX6_token_84 (fun v25 H locs h hG => ?_)
            refine gb_if_eq hx hb dX6_token_87 (tgt := 103) (by decide) h (fun h => ?_) (fun h => ?_)
            · exact J4 _ (Option.some.inj h).symm _ _ _ hG hl
            · refine lv_aload_n hx hb dX6_token_90 rfl (lv_at hl 0 rfl) ?_
              refine lv_dup hx hb dX6_token_91 rfl ?_
              refine tw_getI hF hG 25 (by decide) q1858 rfl dX6_token_92 ?_
              refine lv_iconst (v := 1) hx hb dX6_token_95 (by decide) ?_
              refine lv_iadd hx hb dX6_token_96 ?_
              refine tw_putI hF hL0 hG 25 (by decide) q1858 rfl h dX6_token_97 (fun σ26 H locs h hG => ?_)
              refine lv_goto hx hb dX6_token_100 (tgt := 76) (by decide) ?_
              exact ihL22 _ h _ _ _ hG hl
        exact LL22 _ _ h _ _ _ hG (lv_sub hl [1] rfl)
    · refine lv_aload_n hx hb dX6_token_61 rfl (lv_at hl 1 rfl) ?_
      refine lv_iconst (v := 0) hx hb dX6_token_62 (by decide) ?_
      refine tw_putI hF hL0 hG 27 (by decide) q1860 rfl h dX6_token_63 (fun σ29 H locs h hG => ?_)
      refine lv_goto hx hb dX6_token_66 (tgt := 178) (by decide) ?_
      have h := Option.some.inj h
      subst h
      exact g_vret hQ hG ⟨rfl, rfl, rfl⟩ (Nat.le_refl _) (Nat.le_refl _) dX6_token_178
  have LL1 : ∀ (n : Nat) (σ2 : TS), t_X6_token_L1 n σ2 = some X1 → ∀ (H : Heap) (locs : List Loc) (ls : Array Slot), gJ D clX L0 A s.heap (twG dA b σ2 G0) sz H locs → lv_has ls 2 [(0, .ref b)] → W p l e R s m args below meth c H locs 0 0 Q (F0 m 0 ls []) := by
    intro n
    induction n with
    | zero =>
      intro σ2 h
      rw [t_X6_token_L1] at h
      cases h
    | succ n ihL1 =>
      intro σ2 h H locs ls hG hl
      rw [t_X6_token_L1] at h
      refine lv_aload_n hx hb dX6_token_0 rfl (lv_at hl 0 rfl) ?_
      refine lv_aload_n hx hb dX6_token_1 rfl (lv_at hl 0 rfl) ?_
      refine tw_getI hF hG 25 (by decide) q1858 rfl dX6_token_2 ?_
      refine k_X6_byteAt hF hL0 hG hl (Nat.le_of_ble_eq_true rfl) (Nat.le_of_ble_eq_true rfl) h ⟨Nat.le_of_ble_eq_true rfl, Nat.le_of_ble_eq_true rfl⟩ (Nat.le_of_ble_eq_true rfl) dX6_token_5 (fun v3 H locs h hG => ?_)
      refine lv_bipush (v := 10) hx hb dX6_token_8 (by decide) ?_
      refine gb_icmp_eq hx hb dX6_token_10 (tgt := 26) (by decide) h (fun h => ?_) (fun h => ?_)
      · refine lv_aload_n hx hb dX6_token_26 rfl (lv_at hl 0 rfl) ?_
        refine lv_dup hx hb dX6_token_27 rfl ?_
        refine tw_getI hF hG 25 (by decide) q1858 rfl dX6_token_28 ?_
        refine lv_iconst (v := 1) hx hb dX6_token_31 (by decide) ?_
        refine lv_iadd hx hb dX6_token_32 ?_
        refine tw_putI hF hL0 hG 25 (by decide) q1858 rfl h dX6_token_33 (fun σ4 H locs h hG => ?_)
        refine lv_goto hx hb dX6_token_36 (tgt := 0) (by decide) ?_
        exact ihL1 _ h _ _ _ hG hl
      · refine lv_aload_n hx hb dX6_token_13 rfl (lv_at hl 0 rfl) ?_
        refine lv_aload_n hx hb dX6_token_14 rfl (lv_at hl 0 rfl) ?_
        refine tw_getI hF hG 25 (by decide) q1858 rfl dX6_token_15 ?_
        refine k_X6_byteAt hF hL0 hG hl (Nat.le_of_ble_eq_true rfl) (Nat.le_of_ble_eq_true rfl) h ⟨Nat.le_of_ble_eq_true rfl, Nat.le_of_ble_eq_true rfl⟩ (Nat.le_of_ble_eq_true rfl) dX6_token_18 (fun v5 H locs h hG => ?_)
        refine lv_bipush (v := 32) hx hb dX6_token_21 (by decide) ?_
        refine gb_icmp_ne hx hb dX6_token_23 (tgt := 39) (by decide) h (fun h => ?_) (fun h => ?_)
        · exact J1 _ (Option.some.inj h).symm _ _ _ hG hl
        · refine lv_aload_n hx hb dX6_token_26 rfl (lv_at hl 0 rfl) ?_
          refine lv_dup hx hb dX6_token_27 rfl ?_
          refine tw_getI hF hG 25 (by decide) q1858 rfl dX6_token_28 ?_
          refine lv_iconst (v := 1) hx hb dX6_token_31 (by decide) ?_
          refine lv_iadd hx hb dX6_token_32 ?_
          refine tw_putI hF hL0 hG 25 (by decide) q1858 rfl h dX6_token_33 (fun σ6 H locs h hG => ?_)
          refine lv_goto hx hb dX6_token_36 (tgt := 0) (by decide) ?_
          exact ihL1 _ h _ _ _ hG hl
  exact LL1 _ _ h _ _ _ hG hl
theorem k_X6_token (hF : gX p m c cc nL s args RX6 D clX (tyA dA) K A R rm) (hL0 : L0 ≤ b) (hG : gJ D clX L0 A s.heap (twG dA b σ G0) n H locs) (hl : lv_has ls nL lv) (h1 : 1 + 1 ≤ rm.frames) (h2 : 8 + (2 + 11) + 21 ≤ rm.locals) {γ : Type} {f : TS → Option γ} {o : γ} (h : ob1 (t_X6_token σ) f = some o) (hc : cells ≤ rm.cells ∧ slots ≤ rm.slots) (hW : (rest.map fun v => v.category).sum ≤ 8) (hdg : decode cc pc = .ok (.invokevirtual 130, 3))
    (kk : ∀ (σ1 : TS) (H1 : Heap) (locs1 : List Loc), f σ1 = some o → gJ D clX L0 A s.heap (twG dA b σ1 G0) n H1 locs1 → W p l e R s m args below meth c H1 locs1 cells slots Q (F0 m (pc + 3) ls rest)) : W p l e R s m args below meth c H locs cells slots Q (F0 m pc ls (.ref b :: rest)) := by
  obtain ⟨r, hr, h⟩ := ob1_e h
  refine g_callV hF hG hl twG_obj (C := RX6) (T := TX6) (N := 35) rfl (w_X6_token hF.2.2.1 hL0 σ hr) (cwV 0 hF.1.2.2.2.2 (lw_V q1963 q1965 qs39 q108 q1966) rfl rfl rfl (by decide +kernel) (g_room hF h1 h2)) rfl rfl hW hdg ⟨by rw [hF.2.2.2.2]; exact hc.1, by rw [hF.2.2.2.2]; exact hc.2⟩ (fun v G1 n1 H1 locs1 hR hG1 => ?_)
  obtain ⟨rfl, rfl, rfl⟩ := hR
  exact kk r H1 locs1 h hG1
/-! fails -/
def t_X6_fails (σ : TS) (p0 : Int32) : Option (TS) :=
ob1 (t_X6_isWrong σ) fun (v1 : Int32) =>
if v1 = 0 then (
nm (T_sf σ 28 p0) fun (σ2 : TS) =>
nm (T_sf σ2 29 (σ2.1 26)) fun (σ3 : TS) =>
some σ3)
else (
some σ)
set_option maxRecDepth 100000 in
theorem w_X6_fails {l : Launch} {D : va_G} {dA : Nat → ClassId} {K : gKT} {L0 b sz : Nat} {G0 : GH} (hKo : gKo D clX (tyA dA) K) (hL0 : L0 ≤ b) (σ : TS) (p0 : Int32)  {out : TS} (h : t_X6_fails σ p0 = some out) : gMet l yX6_fails (ws_ yX6_fails cX6_fails 2 none) D clX L0 K [.ref b, .int p0] (twG dA b σ G0) sz 1 20 0 0 (twRV dA b out G0 sz) := by
  refine gMet.of (own := RX6) hKo (by decide +kernel) (Nat.le_of_ble_eq_true rfl) rfl ?_
  intro p e R s m args below meth c A Q ls H hF hQ hin hG hl
  have hx := hF.1.1
  have hb := hF.1.2.1
  have hts := hF.1.2.2.2.2
  have hl : lv_has ls 2 [(0, .ref b), (1, .int p0)] := hl
  unfold t_X6_fails at h
  refine lv_aload_n hx hb dX6_fails_0 rfl (lv_at hl 0 rfl) ?_
  refine k_X6_isWrong hF hL0 hG hl (Nat.le_of_ble_eq_true rfl) (Nat.le_of_ble_eq_true rfl) h ⟨Nat.le_of_ble_eq_true rfl, Nat.le_of_ble_eq_true rfl⟩ (Nat.le_of_ble_eq_true rfl) dX6_fails_1 (fun v1 H locs h hG => ?_)
  refine gb_if_eq hx hb dX6_fails_4 (tgt := 8) (by decide) h (fun h => ?_) (fun h => ?_)
  · refine lv_aload_n hx hb dX6_fails_8 rfl (lv_at hl 0 rfl) ?_
    refine lv_iload_n hx hb dX6_fails_9 rfl (lv_at hl 1 rfl) ?_
    refine tw_putI hF hL0 hG 28 (by decide) q1861 rfl h dX6_fails_10 (fun σ2 H locs h hG => ?_)
    refine lv_aload_n hx hb dX6_fails_13 rfl (lv_at hl 0 rfl) ?_
    refine lv_aload_n hx hb dX6_fails_14 rfl (lv_at hl 0 rfl) ?_
    refine tw_getI hF hG 26 (by decide) q1859 rfl dX6_fails_15 ?_
    refine tw_putI hF hL0 hG 29 (by decide) q1862 rfl h dX6_fails_18 (fun σ3 H locs h hG => ?_)
    have h := Option.some.inj h
    subst h
    exact g_vret hQ hG ⟨rfl, rfl, rfl⟩ (Nat.le_refl _) (Nat.le_refl _) dX6_fails_21
  · have h := Option.some.inj h
    subst h
    exact g_vret hQ hG ⟨rfl, rfl, rfl⟩ (Nat.le_refl _) (Nat.le_refl _) dX6_fails_7
theorem k_X6_fails (hF : gX p m c cc nL s args RX6 D clX (tyA dA) K A R rm) (hL0 : L0 ≤ b) (hG : gJ D clX L0 A s.heap (twG dA b σ G0) n H locs) (hl : lv_has ls nL lv) (h1 : 1 + 1 ≤ rm.frames) (h2 : 8 + (2 + 11) + 20 ≤ rm.locals) {p0 : Int32} {γ : Type} {f : TS → Option γ} {o : γ} (h : ob1 (t_X6_fails σ p0) f = some o) (hc : cells ≤ rm.cells ∧ slots ≤ rm.slots) (hW : (rest.map fun v => v.category).sum ≤ 8) (hdg : decode cc pc = .ok (.invokevirtual 126, 3))
    (kk : ∀ (σ1 : TS) (H1 : Heap) (locs1 : List Loc), f σ1 = some o → gJ D clX L0 A s.heap (twG dA b σ1 G0) n H1 locs1 → W p l e R s m args below meth c H1 locs1 cells slots Q (F0 m (pc + 3) ls rest)) : W p l e R s m args below meth c H locs cells slots Q (F0 m pc ls (.int p0 :: .ref b :: rest)) := by
  obtain ⟨r, hr, h⟩ := ob1_e h
  refine g_callV hF hG hl twG_obj (C := RX6) (T := TX6) (N := 35) rfl (w_X6_fails hF.2.2.1 hL0 σ p0 hr) (cwV 1 hF.1.2.2.2.2 (lw_V q2002 q2004 qs44 q108 q2005) rfl rfl rfl (by decide +kernel) (g_room hF h1 h2)) rfl rfl hW hdg ⟨by rw [hF.2.2.2.2]; exact hc.1, by rw [hF.2.2.2.2]; exact hc.2⟩ (fun v G1 n1 H1 locs1 hR hG1 => ?_)
  obtain ⟨rfl, rfl, rfl⟩ := hR
  exact kk r H1 locs1 h hG1
/-! passes -/
def t_X6_passes (σ : TS) (p0 : Int32) : Option (TS) :=
ob1 (
if p0 = 0 then (
ob1 (t_X6_fails σ 1) fun (σ1 : TS) =>
some σ1)
else (
some σ)) fun (σ2 : TS) =>
ob1 (t_X6_isWrong σ2) fun (v3 : Int32) =>
if v3 = 0 then (
ob1 (t_X6_token σ2) fun (σ4 : TS) =>
some σ4)
else (
some σ2)
set_option maxRecDepth 100000 in
theorem w_X6_passes {l : Launch} {D : va_G} {dA : Nat → ClassId} {K : gKT} {L0 b sz : Nat} {G0 : GH} (hKo : gKo D clX (tyA dA) K) (hL0 : L0 ≤ b) (σ : TS) (p0 : Int32)  {out : TS} (h : t_X6_passes σ p0 = some out) : gMet l yX6_passes (ws_ yX6_passes cX6_passes 2 none) D clX L0 K [.ref b, .int p0] (twG dA b σ G0) sz 2 42 0 0 (twRV dA b out G0 sz) := by
  refine gMet.of (own := RX6) hKo (by decide +kernel) (Nat.le_of_ble_eq_true rfl) rfl ?_
  intro p e R s m args below meth c A Q ls H hF hQ hin hG hl
  have hx := hF.1.1
  have hb := hF.1.2.1
  have hts := hF.1.2.2.2.2
  have hl : lv_has ls 2 [(0, .ref b), (1, .int p0)] := hl
  unfold t_X6_passes at h
  refine lv_iload_n hx hb dX6_passes_0 rfl (lv_at hl 1 rfl) ?_
  obtain ⟨X1, h, hJ1⟩ := ob1_u h
  have J1 : ∀ (σ2 : TS), X1 = σ2 → ∀ (H : Heap) (locs : List Loc) (ls : Array Slot), gJ D clX L0 A s.heap (twG dA b σ2 G0) sz H locs → lv_has ls 2 [(0, .ref b)] → W p l e R s m args below meth c H locs 0 0 Q (F0 m 9 ls []) := by
    intro σ2 e0 H locs ls hG hl
    have h := hJ1 σ2 e0
    refine lv_aload_n hx hb dX6_passes_9 rfl (lv_at hl 0 rfl) ?_
    refine k_X6_isWrong hF hL0 hG hl (Nat.le_of_ble_eq_true rfl) (Nat.le_of_ble_eq_true rfl) h ⟨Nat.le_of_ble_eq_true rfl, Nat.le_of_ble_eq_true rfl⟩ (Nat.le_of_ble_eq_true rfl) dX6_passes_10 (fun v3 H locs h hG => ?_)
    refine gb_if_ne hx hb dX6_passes_13 (tgt := 20) (by decide) h (fun h => ?_) (fun h => ?_)
    · have h := Option.some.inj h
      subst h
      exact g_vret hQ hG ⟨rfl, rfl, rfl⟩ (Nat.le_refl _) (Nat.le_refl _) dX6_passes_20
    · refine lv_aload_n hx hb dX6_passes_16 rfl (lv_at hl 0 rfl) ?_
      refine k_X6_token hF hL0 hG hl (Nat.le_of_ble_eq_true rfl) (Nat.le_of_ble_eq_true rfl) h ⟨Nat.le_of_ble_eq_true rfl, Nat.le_of_ble_eq_true rfl⟩ (Nat.le_of_ble_eq_true rfl) dX6_passes_17 (fun σ4 H locs h hG => ?_)
      have h := Option.some.inj h
      subst h
      exact g_vret hQ hG ⟨rfl, rfl, rfl⟩ (Nat.le_refl _) (Nat.le_refl _) dX6_passes_20
  refine gb_if_ne hx hb dX6_passes_1 (tgt := 9) (by decide) h (fun h => ?_) (fun h => ?_)
  · exact J1 _ (Option.some.inj h).symm _ _ _ hG (lv_sub hl [0] rfl)
  · refine lv_aload_n hx hb dX6_passes_4 rfl (lv_at hl 0 rfl) ?_
    refine lv_iconst (v := 1) hx hb dX6_passes_5 (by decide) ?_
    refine k_X6_fails hF hL0 hG hl (Nat.le_of_ble_eq_true rfl) (Nat.le_of_ble_eq_true rfl) h ⟨Nat.le_of_ble_eq_true rfl, Nat.le_of_ble_eq_true rfl⟩ (Nat.le_of_ble_eq_true rfl) dX6_passes_6 (fun σ1 H locs h hG => ?_)
    exact J1 _ (Option.some.inj h).symm _ _ _ hG (lv_sub hl [0] rfl)
theorem k_X6_passes (hF : gX p m c cc nL s args RX6 D clX (tyA dA) K A R rm) (hL0 : L0 ≤ b) (hG : gJ D clX L0 A s.heap (twG dA b σ G0) n H locs) (hl : lv_has ls nL lv) (h1 : 2 + 1 ≤ rm.frames) (h2 : 8 + (2 + 11) + 42 ≤ rm.locals) {p0 : Int32} {γ : Type} {f : TS → Option γ} {o : γ} (h : ob1 (t_X6_passes σ p0) f = some o) (hc : cells ≤ rm.cells ∧ slots ≤ rm.slots) (hW : (rest.map fun v => v.category).sum ≤ 8) (hdg : decode cc pc = .ok (.invokevirtual 133, 3))
    (kk : ∀ (σ1 : TS) (H1 : Heap) (locs1 : List Loc), f σ1 = some o → gJ D clX L0 A s.heap (twG dA b σ1 G0) n H1 locs1 → W p l e R s m args below meth c H1 locs1 cells slots Q (F0 m (pc + 3) ls rest)) : W p l e R s m args below meth c H locs cells slots Q (F0 m pc ls (.int p0 :: .ref b :: rest)) := by
  obtain ⟨r, hr, h⟩ := ob1_e h
  refine g_callV hF hG hl twG_obj (C := RX6) (T := TX6) (N := 35) rfl (w_X6_passes hF.2.2.1 hL0 σ p0 hr) (cwV 1 hF.1.2.2.2.2 (lw_V q1998 q2000 qs43 q108 q2001) rfl rfl rfl (by decide +kernel) (g_room hF h1 h2)) rfl rfl hW hdg ⟨by rw [hF.2.2.2.2]; exact hc.1, by rw [hF.2.2.2.2]; exact hc.2⟩ (fun v G1 n1 H1 locs1 hR hG1 => ?_)
  obtain ⟨rfl, rfl, rfl⟩ := hR
  exact kk r H1 locs1 h hG1
/-! semicolon -/
def t_X6_semicolon (σ : TS) : Option (TS) :=
ob1 (
if (σ.1 27) = 3 then (
some (1 : Int32))
else (
some (0 : Int32))) fun (z1 : Int32) =>
ob1 (t_X6_passes σ z1) fun (σ2 : TS) =>
some σ2
set_option maxRecDepth 100000 in
theorem w_X6_semicolon {l : Launch} {D : va_G} {dA : Nat → ClassId} {K : gKT} {L0 b sz : Nat} {G0 : GH} (hKo : gKo D clX (tyA dA) K) (hL0 : L0 ≤ b) (σ : TS)  {out : TS} (h : t_X6_semicolon σ = some out) : gMet l yX6_semicolon (ws_ yX6_semicolon cX6_semicolon 1 none) D clX L0 K [.ref b] (twG dA b σ G0) sz 3 63 0 0 (twRV dA b out G0 sz) := by
  refine gMet.of (own := RX6) hKo (by decide +kernel) (Nat.le_of_ble_eq_true rfl) rfl ?_
  intro p e R s m args below meth c A Q ls H hF hQ hin hG hl
  have hx := hF.1.1
  have hb := hF.1.2.1
  have hts := hF.1.2.2.2.2
  have hl : lv_has ls 1 [(0, .ref b)] := hl
  unfold t_X6_semicolon at h
  refine lv_aload_n hx hb dX6_semicolon_0 rfl (lv_at hl 0 rfl) ?_
  refine lv_aload_n hx hb dX6_semicolon_1 rfl (lv_at hl 0 rfl) ?_
  refine tw_getI hF hG 27 (by decide) q1860 rfl dX6_semicolon_2 ?_
  refine lv_iconst (v := 3) hx hb dX6_semicolon_5 (by decide) ?_
  obtain ⟨X1, h, hJ1⟩ := ob1_u h
  have J1 : ∀ (z1 : Int32), X1 = z1 → ∀ (H : Heap) (locs : List Loc) (ls : Array Slot), gJ D clX L0 A s.heap (twG dA b σ G0) sz H locs → lv_has ls 1 [] → W p l e R s m args below meth c H locs 0 0 Q (F0 m 14 ls [.int z1, .ref b]) := by
    intro z1 e0 H locs ls hG hl
    have h := hJ1 z1 e0
    refine k_X6_passes hF hL0 hG hl (Nat.le_of_ble_eq_true rfl) (Nat.le_of_ble_eq_true rfl) h ⟨Nat.le_of_ble_eq_true rfl, Nat.le_of_ble_eq_true rfl⟩ (Nat.le_of_ble_eq_true rfl) dX6_semicolon_14 (fun σ2 H locs h hG => ?_)
    have h := Option.some.inj h
    subst h
    exact g_vret hQ hG ⟨rfl, rfl, rfl⟩ (Nat.le_refl _) (Nat.le_refl _) dX6_semicolon_17
  refine gb_icmp_ne hx hb dX6_semicolon_6 (tgt := 13) (by decide) h (fun h => ?_) (fun h => ?_)
  · refine lv_iconst (v := 0) hx hb dX6_semicolon_13 (by decide) ?_
    exact J1 _ (Option.some.inj h).symm _ _ _ hG (lv_sub hl [] rfl)
  · refine lv_iconst (v := 1) hx hb dX6_semicolon_9 (by decide) ?_
    refine lv_goto hx hb dX6_semicolon_10 (tgt := 14) (by decide) ?_
    exact J1 _ (Option.some.inj h).symm _ _ _ hG (lv_sub hl [] rfl)
theorem k_X6_semicolon (hF : gX p m c cc nL s args RX6 D clX (tyA dA) K A R rm) (hL0 : L0 ≤ b) (hG : gJ D clX L0 A s.heap (twG dA b σ G0) n H locs) (hl : lv_has ls nL lv) (h1 : 3 + 1 ≤ rm.frames) (h2 : 8 + (1 + 11) + 63 ≤ rm.locals) {γ : Type} {f : TS → Option γ} {o : γ} (h : ob1 (t_X6_semicolon σ) f = some o) (hc : cells ≤ rm.cells ∧ slots ≤ rm.slots) (hW : (rest.map fun v => v.category).sum ≤ 8) (hdg : decode cc pc = .ok (.invokevirtual 160, 3))
    (kk : ∀ (σ1 : TS) (H1 : Heap) (locs1 : List Loc), f σ1 = some o → gJ D clX L0 A s.heap (twG dA b σ1 G0) n H1 locs1 → W p l e R s m args below meth c H1 locs1 cells slots Q (F0 m (pc + 3) ls rest)) : W p l e R s m args below meth c H locs cells slots Q (F0 m pc ls (.ref b :: rest)) := by
  obtain ⟨r, hr, h⟩ := ob1_e h
  refine g_callV hF hG hl twG_obj (C := RX6) (T := TX6) (N := 35) rfl (w_X6_semicolon hF.2.2.1 hL0 σ hr) (cwV 0 hF.1.2.2.2.2 (lw_V q2010 q2012 qs46 q108 q2013) rfl rfl rfl (by decide +kernel) (g_room hF h1 h2)) rfl rfl hW hdg ⟨by rw [hF.2.2.2.2]; exact hc.1, by rw [hF.2.2.2.2]; exact hc.2⟩ (fun v G1 n1 H1 locs1 hR hG1 => ?_)
  obtain ⟨rfl, rfl, rfl⟩ := hR
  exact kk r H1 locs1 h hG1
/-! figure -/
def t_X6_figure_L7 (σ4 : TS) : Nat → Int32 → Int32 → Option (Int32)
  | 0, _, _ => none
  | n + 1, y8, y9 =>
    if (σ4.1 25) ≤ y9 then (
    some y8)
    else (
    ob1 (t_X6_byteAt σ4 y9) fun (v10 : Int32) =>
    nm (((10 * y8) + v10) - 48) fun (x11 : Int32) =>
    nm (y9 + 1) fun (x12 : Int32) =>
    t_X6_figure_L7 σ4 n x11 x12)
def t_X6_figure (σ : TS) (p0 : Int32) (p1 : Int32) : Option (Int32 × TS) :=
ob1 (t_X6_isWrong σ) fun (v1 : Int32) =>
if v1 = 0 then (
ob1 (
if (σ.1 27) = 2 then (
if ((σ.1 25) - (σ.1 26)) ≤ 4 then (
some σ)
else (
ob1 (t_X6_fails σ 1) fun (σ3 : TS) =>
some σ3))
else (
ob1 (t_X6_fails σ 1) fun (σ2 : TS) =>
some σ2)) fun (σ4 : TS) =>
ob1 (t_X6_isWrong σ4) fun (v5 : Int32) =>
if v5 = 0 then (
nm (σ4.1 26) fun (x6 : Int32) =>
ob1 (
t_X6_figure_L7 σ4 4096 0 x6) fun (z13 : Int32) =>
ob1 (t_X6_isIn (z13.toInt64) (p0.toInt64) (p1.toInt64)) fun (v14 : Int32) =>
ob1 (
if v14 = 0 then (
ob1 (t_X6_fails σ4 2) fun (σ15 : TS) =>
some σ15)
else (
some σ4)) fun (σ16 : TS) =>
ob1 (t_X6_isWrong σ16) fun (v17 : Int32) =>
if v17 = 0 then (
ob1 (t_X6_token σ16) fun (σ18 : TS) =>
some (z13, σ18))
else (
some (z13, σ16)))
else (
some (p0, σ4)))
else (
some (p0, σ))
set_option maxRecDepth 100000 in
theorem w_X6_figure {l : Launch} {D : va_G} {dA : Nat → ClassId} {K : gKT} {L0 b sz : Nat} {G0 : GH} (hKo : gKo D clX (tyA dA) K) (hL0 : L0 ≤ b) (σ : TS) (p0 : Int32) (p1 : Int32)  {out : Int32 × TS} (h : t_X6_figure σ p0 p1 = some out) : gMet l yX6_figure (ws_ yX6_figure cX6_figure 5 (some .int)) D clX L0 K [.ref b, .int p0, .int p1] (twG dA b σ G0) sz 2 42 0 0 (twRI dA b out.2 G0 sz out.1) := by
  refine gMet.of (own := RX6) hKo (by decide +kernel) (Nat.le_of_ble_eq_true rfl) rfl ?_
  intro p e R s m args below meth c A Q ls H hF hQ hin hG hl
  have hx := hF.1.1
  have hb := hF.1.2.1
  have hts := hF.1.2.2.2.2
  have hl : lv_has ls 5 [(0, .ref b), (1, .int p0), (2, .int p1)] := hl
  unfold t_X6_figure at h
  refine lv_aload_n hx hb dX6_figure_0 rfl (lv_at hl 0 rfl) ?_
  refine k_X6_isWrong hF hL0 hG hl (Nat.le_of_ble_eq_true rfl) (Nat.le_of_ble_eq_true rfl) h ⟨Nat.le_of_ble_eq_true rfl, Nat.le_of_ble_eq_true rfl⟩ (Nat.le_of_ble_eq_true rfl) dX6_figure_1 (fun v1 H locs h hG => ?_)
  refine gb_if_eq hx hb dX6_figure_4 (tgt := 9) (by decide) h (fun h => ?_) (fun h => ?_)
  · refine lv_aload_n hx hb dX6_figure_9 rfl (lv_at hl 0 rfl) ?_
    refine tw_getI hF hG 27 (by decide) q1860 rfl dX6_figure_10 ?_
    refine lv_iconst (v := 2) hx hb dX6_figure_13 (by decide) ?_
    obtain ⟨X1, h, hJ1⟩ := ob1_u h
    have J1 : ∀ (σ4 : TS), X1 = σ4 → ∀ (H : Heap) (locs : List Loc) (ls : Array Slot), gJ D clX L0 A s.heap (twG dA b σ4 G0) sz H locs → lv_has ls 5 [(0, .ref b), (1, .int p0), (2, .int p1)] → W p l e R s m args below meth c H locs 0 0 Q (F0 m 35 ls []) := by
      intro σ4 e0 H locs ls hG hl
      have h := hJ1 σ4 e0
      refine lv_aload_n hx hb dX6_figure_35 rfl (lv_at hl 0 rfl) ?_
      refine k_X6_isWrong hF hL0 hG hl (Nat.le_of_ble_eq_true rfl) (Nat.le_of_ble_eq_true rfl) h ⟨Nat.le_of_ble_eq_true rfl, Nat.le_of_ble_eq_true rfl⟩ (Nat.le_of_ble_eq_true rfl) dX6_figure_36 (fun v5 H locs h hG => ?_)
      refine gb_if_eq hx hb dX6_figure_39 (tgt := 44) (by decide) h (fun h => ?_) (fun h => ?_)
      · refine lv_iconst (v := 0) hx hb dX6_figure_44 (by decide) ?_
        refine lv_istore_n hx hb dX6_figure_45 rfl hl (Nat.le_of_ble_eq_true rfl) (lv' := [(3, .int 0), (0, .ref b), (1, .int p0), (2, .int p1)]) rfl (fun ls hl => ?_)
        refine lv_aload_n hx hb dX6_figure_46 rfl (lv_at hl 1 rfl) ?_
        refine tw_getI hF hG 26 (by decide) q1859 rfl dX6_figure_47 ?_
        refine gb_nm h (fun x6 h => ?_)
        refine lv_istore hx hb dX6_figure_50 hl (Nat.le_of_ble_eq_true rfl) (lv' := [(4, .int x6), (3, .int 0), (0, .ref b), (1, .int p0), (2, .int p1)]) rfl (fun ls hl => ?_)
        obtain ⟨X2, h, hJ2⟩ := ob1_u h
        have J2 : ∀ (z13 : Int32), X2 = z13 → ∀ (H : Heap) (locs : List Loc) (ls : Array Slot), gJ D clX L0 A s.heap (twG dA b σ4 G0) sz H locs → lv_has ls 5 [(0, .ref b), (1, .int p0), (2, .int p1), (3, .int z13)] → W p l e R s m args below meth c H locs 0 0 Q (F0 m 82 ls []) := by
          intro z13 e0 H locs ls hG hl
          have h := hJ2 z13 e0
          refine lv_iload_n hx hb dX6_figure_82 rfl (lv_at hl 3 rfl) ?_
          refine lv_i2l hx hb dX6_figure_83 rfl ?_
          refine lv_iload_n hx hb dX6_figure_84 rfl (lv_at hl 1 rfl) ?_
          refine lv_i2l hx hb dX6_figure_85 rfl ?_
          refine lv_iload_n hx hb dX6_figure_86 rfl (lv_at hl 2 rfl) ?_
          refine lv_i2l hx hb dX6_figure_87 rfl ?_
          refine k_X6_isIn hF hL0 hG hl (Nat.le_of_ble_eq_true rfl) (Nat.le_of_ble_eq_true rfl) h ⟨Nat.le_of_ble_eq_true rfl, Nat.le_of_ble_eq_true rfl⟩ (Nat.le_of_ble_eq_true rfl) dX6_figure_88 (fun v14 H locs h hG => ?_)
          obtain ⟨X3, h, hJ3⟩ := ob1_u h
          have J3 : ∀ (σ16 : TS), X3 = σ16 → ∀ (H : Heap) (locs : List Loc) (ls : Array Slot), gJ D clX L0 A s.heap (twG dA b σ16 G0) sz H locs → lv_has ls 5 [(0, .ref b), (3, .int z13)] → W p l e R s m args below meth c H locs 0 0 Q (F0 m 99 ls []) := by
            intro σ16 e0 H locs ls hG hl
            have h := hJ3 σ16 e0
            refine lv_aload_n hx hb dX6_figure_99 rfl (lv_at hl 0 rfl) ?_
            refine k_X6_isWrong hF hL0 hG hl (Nat.le_of_ble_eq_true rfl) (Nat.le_of_ble_eq_true rfl) h ⟨Nat.le_of_ble_eq_true rfl, Nat.le_of_ble_eq_true rfl⟩ (Nat.le_of_ble_eq_true rfl) dX6_figure_100 (fun v17 H locs h hG => ?_)
            refine gb_if_ne hx hb dX6_figure_103 (tgt := 110) (by decide) h (fun h => ?_) (fun h => ?_)
            · refine lv_iload_n hx hb dX6_figure_110 rfl (lv_at hl 1 rfl) ?_
              have h := Option.some.inj h
              subst h
              exact g_iret hQ hG ⟨rfl, rfl, rfl⟩ (Nat.le_refl _) (Nat.le_refl _) dX6_figure_111
            · refine lv_aload_n hx hb dX6_figure_106 rfl (lv_at hl 0 rfl) ?_
              refine k_X6_token hF hL0 hG hl (Nat.le_of_ble_eq_true rfl) (Nat.le_of_ble_eq_true rfl) h ⟨Nat.le_of_ble_eq_true rfl, Nat.le_of_ble_eq_true rfl⟩ (Nat.le_of_ble_eq_true rfl) dX6_figure_107 (fun σ18 H locs h hG => ?_)
              refine lv_iload_n hx hb dX6_figure_110 rfl (lv_at hl 1 rfl) ?_
              have h := Option.some.inj h
              subst h
              exact g_iret hQ hG ⟨rfl, rfl, rfl⟩ (Nat.le_refl _) (Nat.le_refl _) dX6_figure_111
          refine gb_if_ne hx hb dX6_figure_91 (tgt := 99) (by decide) h (fun h => ?_) (fun h => ?_)
          · exact J3 _ (Option.some.inj h).symm _ _ _ hG (lv_sub hl [0, 3] rfl)
          · refine lv_aload_n hx hb dX6_figure_94 rfl (lv_at hl 0 rfl) ?_
            refine lv_iconst (v := 2) hx hb dX6_figure_95 (by decide) ?_
            refine k_X6_fails hF hL0 hG hl (Nat.le_of_ble_eq_true rfl) (Nat.le_of_ble_eq_true rfl) h ⟨Nat.le_of_ble_eq_true rfl, Nat.le_of_ble_eq_true rfl⟩ (Nat.le_of_ble_eq_true rfl) dX6_figure_96 (fun σ15 H locs h hG => ?_)
            exact J3 _ (Option.some.inj h).symm _ _ _ hG (lv_sub hl [0, 3] rfl)
        have LL7 : ∀ (n : Nat) (y8 : Int32) (y9 : Int32), t_X6_figure_L7 σ4 n y8 y9 = some X2 → ∀ (H : Heap) (locs : List Loc) (ls : Array Slot), gJ D clX L0 A s.heap (twG dA b σ4 G0) sz H locs → lv_has ls 5 [(0, .ref b), (1, .int p0), (2, .int p1), (3, .int y8), (4, .int y9)] → W p l e R s m args below meth c H locs 0 0 Q (F0 m 52 ls []) := by
          intro n
          induction n with
          | zero =>
            intro y8 y9 h
            rw [t_X6_figure_L7] at h
            cases h
          | succ n ihL7 =>
            intro y8 y9 h H locs ls hG hl
            rw [t_X6_figure_L7] at h
            refine lv_iload hx hb dX6_figure_52 (lv_at hl 4 rfl) ?_
            refine lv_aload_n hx hb dX6_figure_54 rfl (lv_at hl 0 rfl) ?_
            refine tw_getI hF hG 25 (by decide) q1858 rfl dX6_figure_55 ?_
            refine gb_icmp_ge hx hb dX6_figure_58 (tgt := 82) (by decide) h (fun h => ?_) (fun h => ?_)
            · exact J2 _ (Option.some.inj h).symm _ _ _ hG (lv_sub hl [0, 1, 2, 3] rfl)
            · refine lv_bipush (v := 10) hx hb dX6_figure_61 (by decide) ?_
              refine lv_iload_n hx hb dX6_figure_63 rfl (lv_at hl 3 rfl) ?_
              refine lv_imul hx hb dX6_figure_64 ?_
              refine lv_aload_n hx hb dX6_figure_65 rfl (lv_at hl 0 rfl) ?_
              refine lv_iload hx hb dX6_figure_66 (lv_at hl 4 rfl) ?_
              refine k_X6_byteAt hF hL0 hG hl (Nat.le_of_ble_eq_true rfl) (Nat.le_of_ble_eq_true rfl) h ⟨Nat.le_of_ble_eq_true rfl, Nat.le_of_ble_eq_true rfl⟩ (Nat.le_of_ble_eq_true rfl) dX6_figure_68 (fun v10 H locs h hG => ?_)
              refine lv_iadd hx hb dX6_figure_71 ?_
              refine lv_bipush (v := 48) hx hb dX6_figure_72 (by decide) ?_
              refine lv_isub hx hb dX6_figure_74 ?_
              refine gb_nm h (fun x11 h => ?_)
              refine lv_istore_n hx hb dX6_figure_75 rfl hl (Nat.le_of_ble_eq_true rfl) (lv' := [(3, .int x11), (0, .ref b), (1, .int p0), (2, .int p1), (4, .int y9)]) rfl (fun ls hl => ?_)
              refine gb_iinc (k' := 1) hx hb dX6_figure_76 hl (k := 4) rfl (by decide) (Nat.le_of_ble_eq_true rfl) h (fun x12 ls h hl => ?_)
              have hl : lv_has ls 5 [(4, .int x12), (3, .int x11), (0, .ref b), (1, .int p0), (2, .int p1)] := hl
              refine lv_goto hx hb dX6_figure_79 (tgt := 52) (by decide) ?_
              exact ihL7 _ _ h _ _ _ hG (lv_sub hl [2, 3, 4, 1, 0] rfl)
        exact LL7 _ _ _ h _ _ _ hG (lv_sub hl [2, 3, 4, 1, 0] rfl)
      · refine lv_iload_n hx hb dX6_figure_42 rfl (lv_at hl 1 rfl) ?_
        have h := Option.some.inj h
        subst h
        exact g_iret hQ hG ⟨rfl, rfl, rfl⟩ (Nat.le_refl _) (Nat.le_refl _) dX6_figure_43
    refine gb_icmp_ne hx hb dX6_figure_14 (tgt := 30) (by decide) h (fun h => ?_) (fun h => ?_)
    · refine lv_aload_n hx hb dX6_figure_30 rfl (lv_at hl 0 rfl) ?_
      refine lv_iconst (v := 1) hx hb dX6_figure_31 (by decide) ?_
      refine k_X6_fails hF hL0 hG hl (Nat.le_of_ble_eq_true rfl) (Nat.le_of_ble_eq_true rfl) h ⟨Nat.le_of_ble_eq_true rfl, Nat.le_of_ble_eq_true rfl⟩ (Nat.le_of_ble_eq_true rfl) dX6_figure_32 (fun σ2 H locs h hG => ?_)
      exact J1 _ (Option.some.inj h).symm _ _ _ hG hl
    · refine lv_aload_n hx hb dX6_figure_17 rfl (lv_at hl 0 rfl) ?_
      refine tw_getI hF hG 25 (by decide) q1858 rfl dX6_figure_18 ?_
      refine lv_aload_n hx hb dX6_figure_21 rfl (lv_at hl 0 rfl) ?_
      refine tw_getI hF hG 26 (by decide) q1859 rfl dX6_figure_22 ?_
      refine lv_isub hx hb dX6_figure_25 ?_
      refine lv_iconst (v := 4) hx hb dX6_figure_26 (by decide) ?_
      refine gb_icmp_le hx hb dX6_figure_27 (tgt := 35) (by decide) h (fun h => ?_) (fun h => ?_)
      · exact J1 _ (Option.some.inj h).symm _ _ _ hG hl
      · refine lv_aload_n hx hb dX6_figure_30 rfl (lv_at hl 0 rfl) ?_
        refine lv_iconst (v := 1) hx hb dX6_figure_31 (by decide) ?_
        refine k_X6_fails hF hL0 hG hl (Nat.le_of_ble_eq_true rfl) (Nat.le_of_ble_eq_true rfl) h ⟨Nat.le_of_ble_eq_true rfl, Nat.le_of_ble_eq_true rfl⟩ (Nat.le_of_ble_eq_true rfl) dX6_figure_32 (fun σ3 H locs h hG => ?_)
        exact J1 _ (Option.some.inj h).symm _ _ _ hG hl
  · refine lv_iload_n hx hb dX6_figure_7 rfl (lv_at hl 1 rfl) ?_
    have h := Option.some.inj h
    subst h
    exact g_iret hQ hG ⟨rfl, rfl, rfl⟩ (Nat.le_refl _) (Nat.le_refl _) dX6_figure_8
theorem k_X6_figure (hF : gX p m c cc nL s args RX6 D clX (tyA dA) K A R rm) (hL0 : L0 ≤ b) (hG : gJ D clX L0 A s.heap (twG dA b σ G0) n H locs) (hl : lv_has ls nL lv) (h1 : 2 + 1 ≤ rm.frames) (h2 : 8 + (5 + 11) + 42 ≤ rm.locals) {p0 : Int32} {p1 : Int32} {γ : Type} {f : Int32 → TS → Option γ} {o : γ} (h : ob2 (t_X6_figure σ p0 p1) f = some o) (hc : cells ≤ rm.cells ∧ slots ≤ rm.slots) (hW : (rest.map fun v => v.category).sum ≤ 8) (hdg : decode cc pc = .ok (.invokevirtual 153, 3))
    (kk : ∀ (r : Int32) (σ1 : TS) (H1 : Heap) (locs1 : List Loc), f r σ1 = some o → gJ D clX L0 A s.heap (twG dA b σ1 G0) n H1 locs1 → W p l e R s m args below meth c H1 locs1 cells slots Q (F0 m (pc + 3) ls (.int r :: rest))) : W p l e R s m args below meth c H locs cells slots Q (F0 m pc ls (.int p1 :: .int p0 :: .ref b :: rest)) := by
  obtain ⟨r, r2, hr, h⟩ := ob2_e h
  refine g_callV hF hG hl twG_obj (C := RX6) (T := TX6) (N := 35) rfl (w_X6_figure hF.2.2.1 hL0 σ p0 p1 hr) (cwV 2 hF.1.2.2.2.2 (lw_V q2006 q2008 qs45 q108 q2009) rfl rfl rfl (by decide +kernel) (g_room hF h1 h2)) rfl rfl hW hdg ⟨by rw [hF.2.2.2.2]; exact hc.1, by rw [hF.2.2.2.2]; exact hc.2⟩ (fun v G1 n1 H1 locs1 hR hG1 => ?_)
  obtain ⟨rfl, rfl, rfl⟩ := hR
  exact kk r r2 H1 locs1 h hG1
/-! whichOf -/
def t_X6_whichOf_L3 (σ : TS) (p0 : Nat) (p2 : Nat) (p3 : Int32) (p4 : Int32) (y2 : Int32) : Nat → Int32 → Int32 → Option (Int32)
  | 0, _, _ => none
  | n + 1, y4, y5 =>
    if 8 ≤ y5 then (
    some y4)
    else (
    ob1 (
    if y4 = 0 then (
    some (0 : Int32))
    else (
    ob1 (T_rd σ p0 ((8 * y2) + y5)) fun (v6 : Int32) =>
    ob1 (
    if p4 ≤ (p3 + y5) then (
    some (0 : Int32))
    else (
    ob1 (T_rd σ p2 (p3 + y5)) fun (v7 : Int32) =>
    some v7)) fun (z8 : Int32) =>
    if v6 = z8 then (
    some (1 : Int32))
    else (
    some (0 : Int32)))) fun (z9 : Int32) =>
    nm (y5 + 1) fun (x10 : Int32) =>
    t_X6_whichOf_L3 σ p0 p2 p3 p4 y2 n z9 x10)
def t_X6_whichOf_L1 (σ : TS) (p0 : Nat) (p1 : Int32) (p2 : Nat) (p3 : Int32) (p4 : Int32) : Nat → Int32 → Option (Int32 ⊕ (Unit))
  | 0, _ => none
  | n + 1, y2 =>
    if p1 ≤ y2 then (
    some (Sum.inr ()))
    else (
    ob1 (
    t_X6_whichOf_L3 σ p0 p2 p3 p4 y2 4096 1 0) fun (z11 : Int32) =>
    if z11 = 0 then (
    nm (y2 + 1) fun (x12 : Int32) =>
    t_X6_whichOf_L1 σ p0 p1 p2 p3 p4 n x12)
    else (
    some (Sum.inl y2)))
def t_X6_whichOf (σ : TS) (p0 : Nat) (p1 : Int32) (p2 : Nat) (p3 : Int32) (p4 : Int32) : Option (Int32) :=
oe0 (ρ := Int32) (
t_X6_whichOf_L1 σ p0 p1 p2 p3 p4 4096 0) (fun r => some r) (
some (-1))
set_option maxRecDepth 100000 in
theorem w_X6_whichOf {l : Launch} {D : va_G} {dA : Nat → ClassId} {K : gKT} {L0 b sz : Nat} {G0 : GH} (hKo : gKo D clX (tyA dA) K) (hL0 : L0 ≤ b) (σ : TS) (p0 : Nat) (p1 : Int32) (p2 : Nat) (p3 : Int32) (p4 : Int32) (hj0 : twI p0) (hj2 : twI p2) {out : Int32} (h : t_X6_whichOf σ p0 p1 p2 p3 p4 = some out) : gMet l yX6_whichOf (ws_ yX6_whichOf cX6_whichOf 8 (some .int)) D clX L0 K [.ref (b + p0), .int p1, .ref (b + p2), .int p3, .int p4] (twG dA b σ G0) sz 0 0 0 0 (twRI dA b σ G0 sz out) := by
  refine gMet.of (own := RX6) hKo (by decide +kernel) (Nat.le_of_ble_eq_true rfl) rfl ?_
  intro p e R s m args below meth c A Q ls H hF hQ hin hG hl
  have hx := hF.1.1
  have hb := hF.1.2.1
  have hts := hF.1.2.2.2.2
  have hl : lv_has ls 8 [(0, .ref (b + p0)), (1, .int p1), (2, .ref (b + p2)), (3, .int p3), (4, .int p4)] := hl
  unfold t_X6_whichOf at h
  refine lv_iconst (v := 0) hx hb dX6_whichOf_0 (by decide) ?_
  refine lv_istore hx hb dX6_whichOf_1 hl (Nat.le_of_ble_eq_true rfl) (lv' := [(5, .int 0), (0, .ref (b + p0)), (1, .int p1), (2, .ref (b + p2)), (3, .int p3), (4, .int p4)]) rfl (fun ls hl => ?_)
  obtain ⟨X1, h, hE1, hJ1⟩ := oe0_u h
  have J1 : X1 = Sum.inr () → ∀ (H : Heap) (locs : List Loc) (ls : Array Slot), gJ D clX L0 A s.heap (twG dA b σ G0) sz H locs → lv_has ls 8 [] → W p l e R s m args below meth c H locs 0 0 Q (F0 m 86 ls []) := by
    intro  e0 H locs ls hG hl
    have h := hJ1 e0
    refine lv_iconst (v := (-1)) hx hb dX6_whichOf_86 (by decide) ?_
    have h := Option.some.inj h
    subst h
    exact g_iret hQ hG ⟨rfl, rfl, rfl⟩ (Nat.le_refl _) (Nat.le_refl _) dX6_whichOf_87
  have LL1 : ∀ (n : Nat) (y2 : Int32), t_X6_whichOf_L1 σ p0 p1 p2 p3 p4 n y2 = some X1 → ∀ (H : Heap) (locs : List Loc) (ls : Array Slot), gJ D clX L0 A s.heap (twG dA b σ G0) sz H locs → lv_has ls 8 [(0, .ref (b + p0)), (1, .int p1), (2, .ref (b + p2)), (3, .int p3), (4, .int p4), (5, .int y2)] → W p l e R s m args below meth c H locs 0 0 Q (F0 m 3 ls []) := by
    intro n
    induction n with
    | zero =>
      intro y2 h
      rw [t_X6_whichOf_L1] at h
      cases h
    | succ n ihL1 =>
      intro y2 h H locs ls hG hl
      rw [t_X6_whichOf_L1] at h
      refine lv_iload hx hb dX6_whichOf_3 (lv_at hl 5 rfl) ?_
      refine lv_iload_n hx hb dX6_whichOf_5 rfl (lv_at hl 1 rfl) ?_
      refine gb_icmp_ge hx hb dX6_whichOf_6 (tgt := 86) (by decide) h (fun h => ?_) (fun h => ?_)
      · exact J1 (Option.some.inj h).symm _ _ _ hG (lv_sub hl [] rfl)
      · refine lv_iconst (v := 1) hx hb dX6_whichOf_9 (by decide) ?_
        refine lv_istore hx hb dX6_whichOf_10 hl (Nat.le_of_ble_eq_true rfl) (lv' := [(6, .int 1), (0, .ref (b + p0)), (1, .int p1), (2, .ref (b + p2)), (3, .int p3), (4, .int p4), (5, .int y2)]) rfl (fun ls hl => ?_)
        refine lv_iconst (v := 0) hx hb dX6_whichOf_12 (by decide) ?_
        refine lv_istore hx hb dX6_whichOf_13 hl (Nat.le_of_ble_eq_true rfl) (lv' := [(7, .int 0), (6, .int 1), (0, .ref (b + p0)), (1, .int p1), (2, .ref (b + p2)), (3, .int p3), (4, .int p4), (5, .int y2)]) rfl (fun ls hl => ?_)
        obtain ⟨X2, h, hJ2⟩ := ob1_u h
        have J2 : ∀ (z11 : Int32), X2 = z11 → ∀ (H : Heap) (locs : List Loc) (ls : Array Slot), gJ D clX L0 A s.heap (twG dA b σ G0) sz H locs → lv_has ls 8 [(0, .ref (b + p0)), (1, .int p1), (2, .ref (b + p2)), (3, .int p3), (4, .int p4), (5, .int y2), (6, .int z11)] → W p l e R s m args below meth c H locs 0 0 Q (F0 m 72 ls []) := by
          intro z11 e0 H locs ls hG hl
          have h := hJ2 z11 e0
          refine lv_iload hx hb dX6_whichOf_72 (lv_at hl 6 rfl) ?_
          refine gb_if_eq hx hb dX6_whichOf_74 (tgt := 80) (by decide) h (fun h => ?_) (fun h => ?_)
          · refine gb_iinc (k' := 1) hx hb dX6_whichOf_80 hl (k := 5) rfl (by decide) (Nat.le_of_ble_eq_true rfl) h (fun x12 ls h hl => ?_)
            have hl : lv_has ls 8 [(5, .int x12), (0, .ref (b + p0)), (1, .int p1), (2, .ref (b + p2)), (3, .int p3), (4, .int p4), (6, .int z11)] := hl
            refine lv_goto hx hb dX6_whichOf_83 (tgt := 3) (by decide) ?_
            exact ihL1 _ h _ _ _ hG (lv_sub hl [1, 2, 3, 4, 5, 0] rfl)
          · refine lv_iload hx hb dX6_whichOf_77 (lv_at hl 5 rfl) ?_
            have h := hE1 _ (Option.some.inj h).symm
            have h := Option.some.inj h
            subst h
            exact g_iret hQ hG ⟨rfl, rfl, rfl⟩ (Nat.le_refl _) (Nat.le_refl _) dX6_whichOf_79
        have LL3 : ∀ (n : Nat) (y4 : Int32) (y5 : Int32), t_X6_whichOf_L3 σ p0 p2 p3 p4 y2 n y4 y5 = some X2 → ∀ (H : Heap) (locs : List Loc) (ls : Array Slot), gJ D clX L0 A s.heap (twG dA b σ G0) sz H locs → lv_has ls 8 [(0, .ref (b + p0)), (1, .int p1), (2, .ref (b + p2)), (3, .int p3), (4, .int p4), (5, .int y2), (6, .int y4), (7, .int y5)] → W p l e R s m args below meth c H locs 0 0 Q (F0 m 15 ls []) := by
          intro n
          induction n with
          | zero =>
            intro y4 y5 h
            rw [t_X6_whichOf_L3] at h
            cases h
          | succ n ihL3 =>
            intro y4 y5 h H locs ls hG hl
            rw [t_X6_whichOf_L3] at h
            refine lv_iload hx hb dX6_whichOf_15 (lv_at hl 7 rfl) ?_
            refine lv_bipush (v := 8) hx hb dX6_whichOf_17 (by decide) ?_
            refine gb_icmp_ge hx hb dX6_whichOf_19 (tgt := 72) (by decide) h (fun h => ?_) (fun h => ?_)
            · exact J2 _ (Option.some.inj h).symm _ _ _ hG (lv_sub hl [0, 1, 2, 3, 4, 5, 6] rfl)
            · refine lv_iload hx hb dX6_whichOf_22 (lv_at hl 6 rfl) ?_
              obtain ⟨X3, h, hJ3⟩ := ob1_u h
              have J3 : ∀ (z9 : Int32), X3 = z9 → ∀ (H : Heap) (locs : List Loc) (ls : Array Slot), gJ D clX L0 A s.heap (twG dA b σ G0) sz H locs → lv_has ls 8 [(0, .ref (b + p0)), (1, .int p1), (2, .ref (b + p2)), (3, .int p3), (4, .int p4), (5, .int y2), (7, .int y5)] → W p l e R s m args below meth c H locs 0 0 Q (F0 m 64 ls [.int z9]) := by
                intro z9 e0 H locs ls hG hl
                have h := hJ3 z9 e0
                refine lv_istore hx hb dX6_whichOf_64 hl (Nat.le_of_ble_eq_true rfl) (lv' := [(6, .int z9), (0, .ref (b + p0)), (1, .int p1), (2, .ref (b + p2)), (3, .int p3), (4, .int p4), (5, .int y2), (7, .int y5)]) rfl (fun ls hl => ?_)
                refine gb_iinc (k' := 1) hx hb dX6_whichOf_66 hl (k := 7) rfl (by decide) (Nat.le_of_ble_eq_true rfl) h (fun x10 ls h hl => ?_)
                have hl : lv_has ls 8 [(7, .int x10), (6, .int z9), (0, .ref (b + p0)), (1, .int p1), (2, .ref (b + p2)), (3, .int p3), (4, .int p4), (5, .int y2)] := hl
                refine lv_goto hx hb dX6_whichOf_69 (tgt := 15) (by decide) ?_
                exact ihL3 _ _ h _ _ _ hG (lv_sub hl [2, 3, 4, 5, 6, 7, 1, 0] rfl)
              refine gb_if_eq hx hb dX6_whichOf_24 (tgt := 63) (by decide) h (fun h => ?_) (fun h => ?_)
              · refine lv_iconst (v := 0) hx hb dX6_whichOf_63 (by decide) ?_
                exact J3 _ (Option.some.inj h).symm _ _ _ hG (lv_sub hl [0, 1, 2, 3, 4, 5, 7] rfl)
              · refine lv_aload_n hx hb dX6_whichOf_27 rfl (lv_at hl 0 rfl) ?_
                refine lv_bipush (v := 8) hx hb dX6_whichOf_28 (by decide) ?_
                refine lv_iload hx hb dX6_whichOf_30 (lv_at hl 5 rfl) ?_
                refine lv_imul hx hb dX6_whichOf_32 ?_
                refine lv_iload hx hb dX6_whichOf_33 (lv_at hl 7 rfl) ?_
                refine lv_iadd hx hb dX6_whichOf_35 ?_
                refine tw_rd hF hG (j := p0) hj0 h dX6_whichOf_36 (fun v6 h => ?_)
                refine lv_iload_n hx hb dX6_whichOf_37 rfl (lv_at hl 3 rfl) ?_
                refine lv_iload hx hb dX6_whichOf_38 (lv_at hl 7 rfl) ?_
                refine lv_iadd hx hb dX6_whichOf_40 ?_
                refine lv_iload hx hb dX6_whichOf_41 (lv_at hl 4 rfl) ?_
                obtain ⟨X4, h, hJ4⟩ := ob1_u h
                have J4 : ∀ (z8 : Int32), X4 = z8 → ∀ (H : Heap) (locs : List Loc) (ls : Array Slot), gJ D clX L0 A s.heap (twG dA b σ G0) sz H locs → lv_has ls 8 [(0, .ref (b + p0)), (1, .int p1), (2, .ref (b + p2)), (3, .int p3), (4, .int p4), (5, .int y2), (7, .int y5)] → W p l e R s m args below meth c H locs 0 0 Q (F0 m 56 ls [.int z8, .int v6]) := by
                  intro z8 e0 H locs ls hG hl
                  have h := hJ4 z8 e0
                  refine gb_icmp_ne hx hb dX6_whichOf_56 (tgt := 63) (by decide) h (fun h => ?_) (fun h => ?_)
                  · refine lv_iconst (v := 0) hx hb dX6_whichOf_63 (by decide) ?_
                    exact J3 _ (Option.some.inj h).symm _ _ _ hG hl
                  · refine lv_iconst (v := 1) hx hb dX6_whichOf_59 (by decide) ?_
                    refine lv_goto hx hb dX6_whichOf_60 (tgt := 64) (by decide) ?_
                    exact J3 _ (Option.some.inj h).symm _ _ _ hG hl
                refine gb_icmp_ge hx hb dX6_whichOf_43 (tgt := 55) (by decide) h (fun h => ?_) (fun h => ?_)
                · refine lv_iconst (v := 0) hx hb dX6_whichOf_55 (by decide) ?_
                  exact J4 _ (Option.some.inj h).symm _ _ _ hG (lv_sub hl [0, 1, 2, 3, 4, 5, 7] rfl)
                · refine lv_aload_n hx hb dX6_whichOf_46 rfl (lv_at hl 2 rfl) ?_
                  refine lv_iload_n hx hb dX6_whichOf_47 rfl (lv_at hl 3 rfl) ?_
                  refine lv_iload hx hb dX6_whichOf_48 (lv_at hl 7 rfl) ?_
                  refine lv_iadd hx hb dX6_whichOf_50 ?_
                  refine tw_rd hF hG (j := p2) hj2 h dX6_whichOf_51 (fun v7 h => ?_)
                  refine lv_goto hx hb dX6_whichOf_52 (tgt := 56) (by decide) ?_
                  exact J4 _ (Option.some.inj h).symm _ _ _ hG (lv_sub hl [0, 1, 2, 3, 4, 5, 7] rfl)
        exact LL3 _ _ _ h _ _ _ hG (lv_sub hl [2, 3, 4, 5, 6, 7, 1, 0] rfl)
  exact LL1 _ _ h _ _ _ hG (lv_sub hl [1, 2, 3, 4, 5, 0] rfl)
theorem k_X6_whichOf (hF : gX p m c cc nL s args RX6 D clX (tyA dA) K A R rm) (hL0 : L0 ≤ b) (hG : gJ D clX L0 A s.heap (twG dA b σ G0) n H locs) (hl : lv_has ls nL lv) (h1 : 0 + 1 ≤ rm.frames) (h2 : 8 + (8 + 11) + 0 ≤ rm.locals) {p0 : Nat} {p1 : Int32} {p2 : Nat} {p3 : Int32} {p4 : Int32} (hj0 : twI p0) (hj2 : twI p2) {γ : Type} {f : Int32 → Option γ} {o : γ} (h : ob1 (t_X6_whichOf σ p0 p1 p2 p3 p4) f = some o) (hc : cells ≤ rm.cells ∧ slots ≤ rm.slots) (hW : (rest.map fun v => v.category).sum ≤ 8) (hdg : decode cc pc = .ok (.invokestatic 143, 3))
    (kk : ∀ (r : Int32) (H1 : Heap) (locs1 : List Loc), f r = some o → gJ D clX L0 A s.heap (twG dA b σ G0) n H1 locs1 → W p l e R s m args below meth c H1 locs1 cells slots Q (F0 m (pc + 3) ls (.int r :: rest))) : W p l e R s m args below meth c H locs cells slots Q (F0 m pc ls (.int p4 :: .int p3 :: .ref (b + p2) :: .int p1 :: .ref (b + p0) :: rest)) := by
  obtain ⟨r, hr, h⟩ := ob1_e h
  refine g_callS hF hG hl (w_X6_whichOf hF.2.2.1 hL0 σ p0 p1 p2 p3 p4 hj0 hj2 hr) (va_cwS 5 hF.1.2.2.2.2 (lw_S q2027 q2028 q108 q2029) rfl rfl rfl (by decide +kernel) (g_room hF h1 h2)) rfl rfl hW hdg ⟨by rw [hF.2.2.2.2]; exact hc.1, by rw [hF.2.2.2.2]; exact hc.2⟩ (fun v G1 n1 H1 locs1 hR hG1 => ?_)
  obtain ⟨rfl, rfl, rfl⟩ := hR
  exact kk r H1 locs1 h hG1
/-! isName -/
def t_X6_isName (σ : TS) : Option (Int32) :=
ob1 (t_X6_isWrong σ) fun (v1 : Int32) =>
if v1 = 0 then (
if (σ.1 27) = 1 then (
if 8 < ((σ.1 25) - (σ.1 26)) then (
some 0)
else (
some 1))
else (
some 0))
else (
some 0)
set_option maxRecDepth 100000 in
theorem w_X6_isName {l : Launch} {D : va_G} {dA : Nat → ClassId} {K : gKT} {L0 b sz : Nat} {G0 : GH} (hKo : gKo D clX (tyA dA) K) (hL0 : L0 ≤ b) (σ : TS)  {out : Int32} (h : t_X6_isName σ = some out) : gMet l yX6_isName (ws_ yX6_isName cX6_isName 1 (some .boolean)) D clX L0 K [.ref b] (twG dA b σ G0) sz 1 20 0 0 (twRI dA b σ G0 sz out) := by
  refine gMet.of (own := RX6) hKo (by decide +kernel) (Nat.le_of_ble_eq_true rfl) rfl ?_
  intro p e R s m args below meth c A Q ls H hF hQ hin hG hl
  have hx := hF.1.1
  have hb := hF.1.2.1
  have hts := hF.1.2.2.2.2
  have hl : lv_has ls 1 [(0, .ref b)] := hl
  unfold t_X6_isName at h
  refine lv_aload_n hx hb dX6_isName_0 rfl (lv_at hl 0 rfl) ?_
  refine k_X6_isWrong hF hL0 hG hl (Nat.le_of_ble_eq_true rfl) (Nat.le_of_ble_eq_true rfl) h ⟨Nat.le_of_ble_eq_true rfl, Nat.le_of_ble_eq_true rfl⟩ (Nat.le_of_ble_eq_true rfl) dX6_isName_1 (fun v1 H locs h hG => ?_)
  refine gb_if_ne hx hb dX6_isName_4 (tgt := 33) (by decide) h (fun h => ?_) (fun h => ?_)
  · refine lv_iconst (v := 0) hx hb dX6_isName_33 (by decide) ?_
    have h := Option.some.inj h
    subst h
    exact g_zret hQ hG (by decide) ⟨rfl, rfl, rfl⟩ (Nat.le_refl _) (Nat.le_refl _) dX6_isName_34
  · refine lv_aload_n hx hb dX6_isName_7 rfl (lv_at hl 0 rfl) ?_
    refine tw_getI hF hG 27 (by decide) q1860 rfl dX6_isName_8 ?_
    refine lv_iconst (v := 1) hx hb dX6_isName_11 (by decide) ?_
    refine gb_icmp_ne hx hb dX6_isName_12 (tgt := 33) (by decide) h (fun h => ?_) (fun h => ?_)
    · refine lv_iconst (v := 0) hx hb dX6_isName_33 (by decide) ?_
      have h := Option.some.inj h
      subst h
      exact g_zret hQ hG (by decide) ⟨rfl, rfl, rfl⟩ (Nat.le_refl _) (Nat.le_refl _) dX6_isName_34
    · refine lv_aload_n hx hb dX6_isName_15 rfl (lv_at hl 0 rfl) ?_
      refine tw_getI hF hG 25 (by decide) q1858 rfl dX6_isName_16 ?_
      refine lv_aload_n hx hb dX6_isName_19 rfl (lv_at hl 0 rfl) ?_
      refine tw_getI hF hG 26 (by decide) q1859 rfl dX6_isName_20 ?_
      refine lv_isub hx hb dX6_isName_23 ?_
      refine lv_bipush (v := 8) hx hb dX6_isName_24 (by decide) ?_
      refine gb_icmp_gt hx hb dX6_isName_26 (tgt := 33) (by decide) h (fun h => ?_) (fun h => ?_)
      · refine lv_iconst (v := 0) hx hb dX6_isName_33 (by decide) ?_
        have h := Option.some.inj h
        subst h
        exact g_zret hQ hG (by decide) ⟨rfl, rfl, rfl⟩ (Nat.le_refl _) (Nat.le_refl _) dX6_isName_34
      · refine lv_iconst (v := 1) hx hb dX6_isName_29 (by decide) ?_
        refine lv_goto hx hb dX6_isName_30 (tgt := 34) (by decide) ?_
        have h := Option.some.inj h
        subst h
        exact g_zret hQ hG (by decide) ⟨rfl, rfl, rfl⟩ (Nat.le_refl _) (Nat.le_refl _) dX6_isName_34
theorem k_X6_isName (hF : gX p m c cc nL s args RX6 D clX (tyA dA) K A R rm) (hL0 : L0 ≤ b) (hG : gJ D clX L0 A s.heap (twG dA b σ G0) n H locs) (hl : lv_has ls nL lv) (h1 : 1 + 1 ≤ rm.frames) (h2 : 8 + (1 + 11) + 20 ≤ rm.locals) {γ : Type} {f : Int32 → Option γ} {o : γ} (h : ob1 (t_X6_isName σ) f = some o) (hc : cells ≤ rm.cells ∧ slots ≤ rm.slots) (hW : (rest.map fun v => v.category).sum ≤ 8) (hdg : decode cc pc = .ok (.invokevirtual 137, 3))
    (kk : ∀ (r : Int32) (H1 : Heap) (locs1 : List Loc), f r = some o → gJ D clX L0 A s.heap (twG dA b σ G0) n H1 locs1 → W p l e R s m args below meth c H1 locs1 cells slots Q (F0 m (pc + 3) ls (.int r :: rest))) : W p l e R s m args below meth c H locs cells slots Q (F0 m pc ls (.ref b :: rest)) := by
  obtain ⟨r, hr, h⟩ := ob1_e h
  refine g_callV hF hG hl twG_obj (C := RX6) (T := TX6) (N := 35) rfl (w_X6_isName hF.2.2.1 hL0 σ hr) (cwV 0 hF.1.2.2.2.2 (lw_V q2023 q2025 qs49 q108 q2026) rfl rfl rfl (by decide +kernel) (g_room hF h1 h2)) rfl rfl hW hdg ⟨by rw [hF.2.2.2.2]; exact hc.1, by rw [hF.2.2.2.2]; exact hc.2⟩ (fun v G1 n1 H1 locs1 hR hG1 => ?_)
  obtain ⟨rfl, rfl, rfl⟩ := hR
  exact kk r H1 locs1 h hG1
/-! looksUp -/
def t_X6_looksUp (σ : TS) : Option (Int32 × TS) :=
ob1 (t_X6_isName σ) fun (v1 : Int32) =>
ob1 (
if v1 = 0 then (
ob1 (t_X6_fails σ 1) fun (σ2 : TS) =>
some σ2)
else (
some σ)) fun (σ3 : TS) =>
ob1 (t_X6_isWrong σ3) fun (v4 : Int32) =>
if v4 = 0 then (
ob1 (t_X6_whichOf σ3 17 (σ3.1 30) 11 (σ3.1 26) (σ3.1 25)) fun (v5 : Int32) =>
some (v5, σ3))
else (
some (0, σ3))
set_option maxRecDepth 100000 in
theorem w_X6_looksUp {l : Launch} {D : va_G} {dA : Nat → ClassId} {K : gKT} {L0 b sz : Nat} {G0 : GH} (hKo : gKo D clX (tyA dA) K) (hL0 : L0 ≤ b) (σ : TS)  {out : Int32 × TS} (h : t_X6_looksUp σ = some out) : gMet l yX6_looksUp (ws_ yX6_looksUp cX6_looksUp 1 (some .int)) D clX L0 K [.ref b] (twG dA b σ G0) sz 2 41 0 0 (twRI dA b out.2 G0 sz out.1) := by
  refine gMet.of (own := RX6) hKo (by decide +kernel) (Nat.le_of_ble_eq_true rfl) rfl ?_
  intro p e R s m args below meth c A Q ls H hF hQ hin hG hl
  have hx := hF.1.1
  have hb := hF.1.2.1
  have hts := hF.1.2.2.2.2
  have hl : lv_has ls 1 [(0, .ref b)] := hl
  unfold t_X6_looksUp at h
  refine lv_aload_n hx hb dX6_looksUp_0 rfl (lv_at hl 0 rfl) ?_
  refine k_X6_isName hF hL0 hG hl (Nat.le_of_ble_eq_true rfl) (Nat.le_of_ble_eq_true rfl) h ⟨Nat.le_of_ble_eq_true rfl, Nat.le_of_ble_eq_true rfl⟩ (Nat.le_of_ble_eq_true rfl) dX6_looksUp_1 (fun v1 H locs h hG => ?_)
  obtain ⟨X1, h, hJ1⟩ := ob1_u h
  have J1 : ∀ (σ3 : TS), X1 = σ3 → ∀ (H : Heap) (locs : List Loc) (ls : Array Slot), gJ D clX L0 A s.heap (twG dA b σ3 G0) sz H locs → lv_has ls 1 [(0, .ref b)] → W p l e R s m args below meth c H locs 0 0 Q (F0 m 12 ls []) := by
    intro σ3 e0 H locs ls hG hl
    have h := hJ1 σ3 e0
    refine lv_aload_n hx hb dX6_looksUp_12 rfl (lv_at hl 0 rfl) ?_
    refine k_X6_isWrong hF hL0 hG hl (Nat.le_of_ble_eq_true rfl) (Nat.le_of_ble_eq_true rfl) h ⟨Nat.le_of_ble_eq_true rfl, Nat.le_of_ble_eq_true rfl⟩ (Nat.le_of_ble_eq_true rfl) dX6_looksUp_13 (fun v4 H locs h hG => ?_)
    refine gb_if_eq hx hb dX6_looksUp_16 (tgt := 23) (by decide) h (fun h => ?_) (fun h => ?_)
    · refine lv_aload_n hx hb dX6_looksUp_23 rfl (lv_at hl 0 rfl) ?_
      refine tw_getR hF hG 22 17 (by decide) q1855 rfl dX6_looksUp_24 ?_
      refine lv_aload_n hx hb dX6_looksUp_27 rfl (lv_at hl 0 rfl) ?_
      refine tw_getI hF hG 30 (by decide) q1863 rfl dX6_looksUp_28 ?_
      refine lv_aload_n hx hb dX6_looksUp_31 rfl (lv_at hl 0 rfl) ?_
      refine tw_getR hF hG 16 11 (by decide) q1849 rfl dX6_looksUp_32 ?_
      refine lv_aload_n hx hb dX6_looksUp_35 rfl (lv_at hl 0 rfl) ?_
      refine tw_getI hF hG 26 (by decide) q1859 rfl dX6_looksUp_36 ?_
      refine lv_aload_n hx hb dX6_looksUp_39 rfl (lv_at hl 0 rfl) ?_
      refine tw_getI hF hG 25 (by decide) q1858 rfl dX6_looksUp_40 ?_
      refine k_X6_whichOf hF hL0 hG hl (Nat.le_of_ble_eq_true rfl) (Nat.le_of_ble_eq_true rfl) (by decide) (by decide) h ⟨Nat.le_of_ble_eq_true rfl, Nat.le_of_ble_eq_true rfl⟩ (Nat.le_of_ble_eq_true rfl) dX6_looksUp_43 (fun v5 H locs h hG => ?_)
      have h := Option.some.inj h
      subst h
      exact g_iret hQ hG ⟨rfl, rfl, rfl⟩ (Nat.le_refl _) (Nat.le_refl _) dX6_looksUp_46
    · refine lv_iconst (v := 0) hx hb dX6_looksUp_19 (by decide) ?_
      refine lv_goto hx hb dX6_looksUp_20 (tgt := 46) (by decide) ?_
      have h := Option.some.inj h
      subst h
      exact g_iret hQ hG ⟨rfl, rfl, rfl⟩ (Nat.le_refl _) (Nat.le_refl _) dX6_looksUp_46
  refine gb_if_ne hx hb dX6_looksUp_4 (tgt := 12) (by decide) h (fun h => ?_) (fun h => ?_)
  · exact J1 _ (Option.some.inj h).symm _ _ _ hG hl
  · refine lv_aload_n hx hb dX6_looksUp_7 rfl (lv_at hl 0 rfl) ?_
    refine lv_iconst (v := 1) hx hb dX6_looksUp_8 (by decide) ?_
    refine k_X6_fails hF hL0 hG hl (Nat.le_of_ble_eq_true rfl) (Nat.le_of_ble_eq_true rfl) h ⟨Nat.le_of_ble_eq_true rfl, Nat.le_of_ble_eq_true rfl⟩ (Nat.le_of_ble_eq_true rfl) dX6_looksUp_9 (fun σ2 H locs h hG => ?_)
    exact J1 _ (Option.some.inj h).symm _ _ _ hG hl
theorem k_X6_looksUp (hF : gX p m c cc nL s args RX6 D clX (tyA dA) K A R rm) (hL0 : L0 ≤ b) (hG : gJ D clX L0 A s.heap (twG dA b σ G0) n H locs) (hl : lv_has ls nL lv) (h1 : 2 + 1 ≤ rm.frames) (h2 : 8 + (1 + 11) + 41 ≤ rm.locals) {γ : Type} {f : Int32 → TS → Option γ} {o : γ} (h : ob2 (t_X6_looksUp σ) f = some o) (hc : cells ≤ rm.cells ∧ slots ≤ rm.slots) (hW : (rest.map fun v => v.category).sum ≤ 8) (hdg : decode cc pc = .ok (.invokevirtual 150, 3))
    (kk : ∀ (r : Int32) (σ1 : TS) (H1 : Heap) (locs1 : List Loc), f r σ1 = some o → gJ D clX L0 A s.heap (twG dA b σ1 G0) n H1 locs1 → W p l e R s m args below meth c H1 locs1 cells slots Q (F0 m (pc + 3) ls (.int r :: rest))) : W p l e R s m args below meth c H locs cells slots Q (F0 m pc ls (.ref b :: rest)) := by
  obtain ⟨r, r2, hr, h⟩ := ob2_e h
  refine g_callV hF hG hl twG_obj (C := RX6) (T := TX6) (N := 35) rfl (w_X6_looksUp hF.2.2.1 hL0 σ hr) (cwV 0 hF.1.2.2.2.2 (lw_V q2019 q2021 qs48 q108 q2022) rfl rfl rfl (by decide +kernel) (g_room hF h1 h2)) rfl rfl hW hdg ⟨by rw [hF.2.2.2.2]; exact hc.1, by rw [hF.2.2.2.2]; exact hc.2⟩ (fun v G1 n1 H1 locs1 hR hG1 => ?_)
  obtain ⟨rfl, rfl, rfl⟩ := hR
  exact kk r r2 H1 locs1 h hG1
/-! once -/
def t_X6_once (σ : TS) (p0 : Int32) : Option (TS) :=
ob1 (
if (((σ.1 34) >>> (p0 &&& 31)) &&& 1) = 1 then (
ob1 (t_X6_fails σ 5) fun (σ1 : TS) =>
some σ1)
else (
some σ)) fun (σ2 : TS) =>
ob1 (t_X6_isWrong σ2) fun (v3 : Int32) =>
if v3 = 0 then (
nm (T_sf σ2 34 ((σ2.1 34) ||| (1 <<< (p0 &&& 31)))) fun (σ4 : TS) =>
ob1 (t_X6_token σ4) fun (σ5 : TS) =>
some σ5)
else (
some σ2)
set_option maxRecDepth 100000 in
theorem w_X6_once {l : Launch} {D : va_G} {dA : Nat → ClassId} {K : gKT} {L0 b sz : Nat} {G0 : GH} (hKo : gKo D clX (tyA dA) K) (hL0 : L0 ≤ b) (σ : TS) (p0 : Int32)  {out : TS} (h : t_X6_once σ p0 = some out) : gMet l yX6_once (ws_ yX6_once cX6_once 2 none) D clX L0 K [.ref b, .int p0] (twG dA b σ G0) sz 2 42 0 0 (twRV dA b out G0 sz) := by
  refine gMet.of (own := RX6) hKo (by decide +kernel) (Nat.le_of_ble_eq_true rfl) rfl ?_
  intro p e R s m args below meth c A Q ls H hF hQ hin hG hl
  have hx := hF.1.1
  have hb := hF.1.2.1
  have hts := hF.1.2.2.2.2
  have hl : lv_has ls 2 [(0, .ref b), (1, .int p0)] := hl
  unfold t_X6_once at h
  refine lv_aload_n hx hb dX6_once_0 rfl (lv_at hl 0 rfl) ?_
  refine tw_getI hF hG 34 (by decide) q1867 rfl dX6_once_1 ?_
  refine lv_iload_n hx hb dX6_once_4 rfl (lv_at hl 1 rfl) ?_
  refine lv_ishr hx hb dX6_once_5 ?_
  refine lv_iconst (v := 1) hx hb dX6_once_6 (by decide) ?_
  refine lv_iand hx hb dX6_once_7 ?_
  refine lv_iconst (v := 1) hx hb dX6_once_8 (by decide) ?_
  obtain ⟨X1, h, hJ1⟩ := ob1_u h
  have J1 : ∀ (σ2 : TS), X1 = σ2 → ∀ (H : Heap) (locs : List Loc) (ls : Array Slot), gJ D clX L0 A s.heap (twG dA b σ2 G0) sz H locs → lv_has ls 2 [(0, .ref b), (1, .int p0)] → W p l e R s m args below meth c H locs 0 0 Q (F0 m 17 ls []) := by
    intro σ2 e0 H locs ls hG hl
    have h := hJ1 σ2 e0
    refine lv_aload_n hx hb dX6_once_17 rfl (lv_at hl 0 rfl) ?_
    refine k_X6_isWrong hF hL0 hG hl (Nat.le_of_ble_eq_true rfl) (Nat.le_of_ble_eq_true rfl) h ⟨Nat.le_of_ble_eq_true rfl, Nat.le_of_ble_eq_true rfl⟩ (Nat.le_of_ble_eq_true rfl) dX6_once_18 (fun v3 H locs h hG => ?_)
    refine gb_if_eq hx hb dX6_once_21 (tgt := 25) (by decide) h (fun h => ?_) (fun h => ?_)
    · refine lv_aload_n hx hb dX6_once_25 rfl (lv_at hl 0 rfl) ?_
      refine lv_dup hx hb dX6_once_26 rfl ?_
      refine tw_getI hF hG 34 (by decide) q1867 rfl dX6_once_27 ?_
      refine lv_iconst (v := 1) hx hb dX6_once_30 (by decide) ?_
      refine lv_iload_n hx hb dX6_once_31 rfl (lv_at hl 1 rfl) ?_
      refine lv_ishl hx hb dX6_once_32 ?_
      refine lv_ior hx hb dX6_once_33 ?_
      refine tw_putI hF hL0 hG 34 (by decide) q1867 rfl h dX6_once_34 (fun σ4 H locs h hG => ?_)
      refine lv_aload_n hx hb dX6_once_37 rfl (lv_at hl 0 rfl) ?_
      refine k_X6_token hF hL0 hG hl (Nat.le_of_ble_eq_true rfl) (Nat.le_of_ble_eq_true rfl) h ⟨Nat.le_of_ble_eq_true rfl, Nat.le_of_ble_eq_true rfl⟩ (Nat.le_of_ble_eq_true rfl) dX6_once_38 (fun σ5 H locs h hG => ?_)
      have h := Option.some.inj h
      subst h
      exact g_vret hQ hG ⟨rfl, rfl, rfl⟩ (Nat.le_refl _) (Nat.le_refl _) dX6_once_41
    · have h := Option.some.inj h
      subst h
      exact g_vret hQ hG ⟨rfl, rfl, rfl⟩ (Nat.le_refl _) (Nat.le_refl _) dX6_once_24
  refine gb_icmp_ne hx hb dX6_once_9 (tgt := 17) (by decide) h (fun h => ?_) (fun h => ?_)
  · exact J1 _ (Option.some.inj h).symm _ _ _ hG hl
  · refine lv_aload_n hx hb dX6_once_12 rfl (lv_at hl 0 rfl) ?_
    refine lv_iconst (v := 5) hx hb dX6_once_13 (by decide) ?_
    refine k_X6_fails hF hL0 hG hl (Nat.le_of_ble_eq_true rfl) (Nat.le_of_ble_eq_true rfl) h ⟨Nat.le_of_ble_eq_true rfl, Nat.le_of_ble_eq_true rfl⟩ (Nat.le_of_ble_eq_true rfl) dX6_once_14 (fun σ1 H locs h hG => ?_)
    exact J1 _ (Option.some.inj h).symm _ _ _ hG hl
theorem k_X6_once (hF : gX p m c cc nL s args RX6 D clX (tyA dA) K A R rm) (hL0 : L0 ≤ b) (hG : gJ D clX L0 A s.heap (twG dA b σ G0) n H locs) (hl : lv_has ls nL lv) (h1 : 2 + 1 ≤ rm.frames) (h2 : 8 + (2 + 11) + 42 ≤ rm.locals) {p0 : Int32} {γ : Type} {f : TS → Option γ} {o : γ} (h : ob1 (t_X6_once σ p0) f = some o) (hc : cells ≤ rm.cells ∧ slots ≤ rm.slots) (hW : (rest.map fun v => v.category).sum ≤ 8) (hdg : decode cc pc = .ok (.invokevirtual 175, 3))
    (kk : ∀ (σ1 : TS) (H1 : Heap) (locs1 : List Loc), f σ1 = some o → gJ D clX L0 A s.heap (twG dA b σ1 G0) n H1 locs1 → W p l e R s m args below meth c H1 locs1 cells slots Q (F0 m (pc + 3) ls rest)) : W p l e R s m args below meth c H locs cells slots Q (F0 m pc ls (.int p0 :: .ref b :: rest)) := by
  obtain ⟨r, hr, h⟩ := ob1_e h
  refine g_callV hF hG hl twG_obj (C := RX6) (T := TX6) (N := 35) rfl (w_X6_once hF.2.2.1 hL0 σ p0 hr) (cwV 1 hF.1.2.2.2.2 (lw_V q2040 q2042 qs52 q108 q2043) rfl rfl rfl (by decide +kernel) (g_room hF h1 h2)) rfl rfl hW hdg ⟨by rw [hF.2.2.2.2]; exact hc.1, by rw [hF.2.2.2.2]; exact hc.2⟩ (fun v G1 n1 H1 locs1 hR hG1 => ?_)
  obtain ⟨rfl, rfl, rfl⟩ := hR
  exact kk r H1 locs1 h hG1
/-! outletLine -/
def t_X6_outletLine_L11 : Nat → Int32 → TS → Option (TS)
  | 0, _, _ => none
  | n + 1, y12, σ13 =>
    if 8 ≤ y12 then (
    some σ13)
    else (
    ob1 (
    if (σ13.1 25) ≤ ((σ13.1 26) + y12) then (
    some (0 : Int32))
    else (
    ob1 (T_rd σ13 11 ((σ13.1 26) + y12)) fun (v14 : Int32) =>
    some v14)) fun (z15 : Int32) =>
    ob1 (T_wr σ13 17 ((8 * (σ13.1 30)) + y12) z15) fun (σ16 : TS) =>
    nm (y12 + 1) fun (x17 : Int32) =>
    t_X6_outletLine_L11 n x17 σ16)
def t_X6_outletLine (σ : TS) : Option (TS) :=
ob1 (
if (σ.1 30) = 12 then (
ob1 (t_X6_fails σ 5) fun (σ1 : TS) =>
some σ1)
else (
some σ)) fun (σ2 : TS) =>
ob1 (t_X6_isWrong σ2) fun (v3 : Int32) =>
if v3 = 0 then (
ob1 (t_X6_token σ2) fun (σ4 : TS) =>
ob2 (t_X6_looksUp σ4) fun (v5 : Int32) (σ6 : TS) =>
ob1 (t_X6_isWrong σ6) fun (v7 : Int32) =>
ob1 (
if v7 = 0 then (
if v5 = (-1) then (
some σ6)
else (
ob1 (t_X6_fails σ6 3) fun (σ8 : TS) =>
some σ8))
else (
some σ6)) fun (σ9 : TS) =>
ob1 (t_X6_isWrong σ9) fun (v10 : Int32) =>
if v10 = 0 then (
ob1 (
t_X6_outletLine_L11 4096 0 σ9) fun (σ18 : TS) =>
ob1 (t_X6_token σ18) fun (σ19 : TS) =>
nm (4 * (σ19.1 30)) fun (x20 : Int32) =>
ob2 (t_X6_figure σ19 0 999) fun (v21 : Int32) (σ22 : TS) =>
ob1 (T_wr σ22 13 x20 v21) fun (σ23 : TS) =>
ob1 (T_rd σ23 13 x20) fun (v24 : Int32) =>
ob2 (t_X6_figure σ23 v24 1999) fun (v25 : Int32) (σ26 : TS) =>
ob1 (T_wr σ26 13 (x20 + 1) v25) fun (σ27 : TS) =>
ob1 (T_rd σ27 13 x20) fun (v28 : Int32) =>
ob1 (T_rd σ27 13 (x20 + 1)) fun (v29 : Int32) =>
ob2 (t_X6_figure σ27 v28 v29) fun (v30 : Int32) (σ31 : TS) =>
ob1 (T_wr σ31 13 (x20 + 2) v30) fun (σ32 : TS) =>
ob2 (t_X6_figure σ32 1 20) fun (v33 : Int32) (σ34 : TS) =>
ob1 (T_wr σ34 13 (x20 + 3) v33) fun (σ35 : TS) =>
ob1 (t_X6_at (σ35.1 30) 0) fun (v36 : Int32) =>
ob2 (t_X6_figure σ35 0 9) fun (v37 : Int32) (σ38 : TS) =>
ob1 (T_wr σ38 12 v36 v37) fun (σ39 : TS) =>
ob1 (t_X6_semicolon σ39) fun (σ40 : TS) =>
ob1 (t_X6_at (σ40.1 30) 1) fun (v41 : Int32) =>
ob1 (T_wr σ40 12 v41 1) fun (σ42 : TS) =>
ob1 (T_wr σ42 14 (σ42.1 30) 0) fun (σ43 : TS) =>
nm (T_sf σ43 30 ((σ43.1 30) + 1)) fun (σ44 : TS) =>
some σ44)
else (
some σ9))
else (
some σ2)
set_option maxRecDepth 100000 in
theorem w_X6_outletLine {l : Launch} {D : va_G} {dA : Nat → ClassId} {K : gKT} {L0 b sz : Nat} {G0 : GH} (hKo : gKo D clX (tyA dA) K) (hL0 : L0 ≤ b) (σ : TS)  {out : TS} (h : t_X6_outletLine σ = some out) : gMet l yX6_outletLine (ws_ yX6_outletLine cX6_outletLine 3 none) D clX L0 K [.ref b] (twG dA b σ G0) sz 4 83 0 0 (twRV dA b out G0 sz) := by
  refine gMet.of (own := RX6) hKo (by decide +kernel) (Nat.le_of_ble_eq_true rfl) rfl ?_
  intro p e R s m args below meth c A Q ls H hF hQ hin hG hl
  have hx := hF.1.1
  have hb := hF.1.2.1
  have hts := hF.1.2.2.2.2
  have hl : lv_has ls 3 [(0, .ref b)] := hl
  unfold t_X6_outletLine at h
  refine lv_aload_n hx hb dX6_outletLine_0 rfl (lv_at hl 0 rfl) ?_
  refine tw_getI hF hG 30 (by decide) q1863 rfl dX6_outletLine_1 ?_
  refine lv_bipush (v := 12) hx hb dX6_outletLine_4 (by decide) ?_
  obtain ⟨X1, h, hJ1⟩ := ob1_u h
  have J1 : ∀ (σ2 : TS), X1 = σ2 → ∀ (H : Heap) (locs : List Loc) (ls : Array Slot), gJ D clX L0 A s.heap (twG dA b σ2 G0) sz H locs → lv_has ls 3 [(0, .ref b)] → W p l e R s m args below meth c H locs 0 0 Q (F0 m 14 ls []) := by
    intro σ2 e0 H locs ls hG hl
    have h := hJ1 σ2 e0
    refine lv_aload_n hx hb dX6_outletLine_14 rfl (lv_at hl 0 rfl) ?_
    refine k_X6_isWrong hF hL0 hG hl (Nat.le_of_ble_eq_true rfl) (Nat.le_of_ble_eq_true rfl) h ⟨Nat.le_of_ble_eq_true rfl, Nat.le_of_ble_eq_true rfl⟩ (Nat.le_of_ble_eq_true rfl) dX6_outletLine_15 (fun v3 H locs h hG => ?_)
    refine gb_if_eq hx hb dX6_outletLine_18 (tgt := 22) (by decide) h (fun h => ?_) (fun h => ?_)
    · refine lv_aload_n hx hb dX6_outletLine_22 rfl (lv_at hl 0 rfl) ?_
      refine k_X6_token hF hL0 hG hl (Nat.le_of_ble_eq_true rfl) (Nat.le_of_ble_eq_true rfl) h ⟨Nat.le_of_ble_eq_true rfl, Nat.le_of_ble_eq_true rfl⟩ (Nat.le_of_ble_eq_true rfl) dX6_outletLine_23 (fun σ4 H locs h hG => ?_)
      refine lv_aload_n hx hb dX6_outletLine_26 rfl (lv_at hl 0 rfl) ?_
      refine k_X6_looksUp hF hL0 hG hl (Nat.le_of_ble_eq_true rfl) (Nat.le_of_ble_eq_true rfl) h ⟨Nat.le_of_ble_eq_true rfl, Nat.le_of_ble_eq_true rfl⟩ (Nat.le_of_ble_eq_true rfl) dX6_outletLine_27 (fun v5 σ6 H locs h hG => ?_)
      refine lv_istore_n hx hb dX6_outletLine_30 rfl hl (Nat.le_of_ble_eq_true rfl) (lv' := [(1, .int v5), (0, .ref b)]) rfl (fun ls hl => ?_)
      refine lv_aload_n hx hb dX6_outletLine_31 rfl (lv_at hl 1 rfl) ?_
      refine k_X6_isWrong hF hL0 hG hl (Nat.le_of_ble_eq_true rfl) (Nat.le_of_ble_eq_true rfl) h ⟨Nat.le_of_ble_eq_true rfl, Nat.le_of_ble_eq_true rfl⟩ (Nat.le_of_ble_eq_true rfl) dX6_outletLine_32 (fun v7 H locs h hG => ?_)
      obtain ⟨X2, h, hJ2⟩ := ob1_u h
      have J2 : ∀ (σ9 : TS), X2 = σ9 → ∀ (H : Heap) (locs : List Loc) (ls : Array Slot), gJ D clX L0 A s.heap (twG dA b σ9 G0) sz H locs → lv_has ls 3 [(0, .ref b)] → W p l e R s m args below meth c H locs 0 0 Q (F0 m 48 ls []) := by
        intro σ9 e0 H locs ls hG hl
        have h := hJ2 σ9 e0
        refine lv_aload_n hx hb dX6_outletLine_48 rfl (lv_at hl 0 rfl) ?_
        refine k_X6_isWrong hF hL0 hG hl (Nat.le_of_ble_eq_true rfl) (Nat.le_of_ble_eq_true rfl) h ⟨Nat.le_of_ble_eq_true rfl, Nat.le_of_ble_eq_true rfl⟩ (Nat.le_of_ble_eq_true rfl) dX6_outletLine_49 (fun v10 H locs h hG => ?_)
        refine gb_if_eq hx hb dX6_outletLine_52 (tgt := 56) (by decide) h (fun h => ?_) (fun h => ?_)
        · refine lv_iconst (v := 0) hx hb dX6_outletLine_56 (by decide) ?_
          refine lv_istore_n hx hb dX6_outletLine_57 rfl hl (Nat.le_of_ble_eq_true rfl) (lv' := [(2, .int 0), (0, .ref b)]) rfl (fun ls hl => ?_)
          obtain ⟨X3, h, hJ3⟩ := ob1_u h
          have J3 : ∀ (σ18 : TS), X3 = σ18 → ∀ (H : Heap) (locs : List Loc) (ls : Array Slot), gJ D clX L0 A s.heap (twG dA b σ18 G0) sz H locs → lv_has ls 3 [(0, .ref b)] → W p l e R s m args below meth c H locs 0 0 Q (F0 m 112 ls []) := by
            intro σ18 e0 H locs ls hG hl
            have h := hJ3 σ18 e0
            refine lv_aload_n hx hb dX6_outletLine_112 rfl (lv_at hl 0 rfl) ?_
            refine k_X6_token hF hL0 hG hl (Nat.le_of_ble_eq_true rfl) (Nat.le_of_ble_eq_true rfl) h ⟨Nat.le_of_ble_eq_true rfl, Nat.le_of_ble_eq_true rfl⟩ (Nat.le_of_ble_eq_true rfl) dX6_outletLine_113 (fun σ19 H locs h hG => ?_)
            refine lv_iconst (v := 4) hx hb dX6_outletLine_116 (by decide) ?_
            refine lv_aload_n hx hb dX6_outletLine_117 rfl (lv_at hl 0 rfl) ?_
            refine tw_getI hF hG 30 (by decide) q1863 rfl dX6_outletLine_118 ?_
            refine lv_imul hx hb dX6_outletLine_121 ?_
            refine gb_nm h (fun x20 h => ?_)
            refine lv_istore_n hx hb dX6_outletLine_122 rfl hl (Nat.le_of_ble_eq_true rfl) (lv' := [(2, .int x20), (0, .ref b)]) rfl (fun ls hl => ?_)
            refine lv_aload_n hx hb dX6_outletLine_123 rfl (lv_at hl 1 rfl) ?_
            refine tw_getR hF hG 18 13 (by decide) q1851 rfl dX6_outletLine_124 ?_
            refine lv_iload_n hx hb dX6_outletLine_127 rfl (lv_at hl 0 rfl) ?_
            refine lv_aload_n hx hb dX6_outletLine_128 rfl (lv_at hl 1 rfl) ?_
            refine lv_iconst (v := 0) hx hb dX6_outletLine_129 (by decide) ?_
            refine lv_sipush (v := 999) hx hb dX6_outletLine_130 (by decide) ?_
            refine k_X6_figure hF hL0 hG hl (Nat.le_of_ble_eq_true rfl) (Nat.le_of_ble_eq_true rfl) h ⟨Nat.le_of_ble_eq_true rfl, Nat.le_of_ble_eq_true rfl⟩ (Nat.le_of_ble_eq_true rfl) dX6_outletLine_133 (fun v21 σ22 H locs h hG => ?_)
            refine tw_wr hF hL0 hG (j := 13) (by decide) h dX6_outletLine_136 (fun σ23 H locs h hG => ?_)
            refine lv_aload_n hx hb dX6_outletLine_137 rfl (lv_at hl 1 rfl) ?_
            refine tw_getR hF hG 18 13 (by decide) q1851 rfl dX6_outletLine_138 ?_
            refine lv_iload_n hx hb dX6_outletLine_141 rfl (lv_at hl 0 rfl) ?_
            refine lv_iconst (v := 1) hx hb dX6_outletLine_142 (by decide) ?_
            refine lv_iadd hx hb dX6_outletLine_143 ?_
            refine lv_aload_n hx hb dX6_outletLine_144 rfl (lv_at hl 1 rfl) ?_
            refine lv_aload_n hx hb dX6_outletLine_145 rfl (lv_at hl 1 rfl) ?_
            refine tw_getR hF hG 18 13 (by decide) q1851 rfl dX6_outletLine_146 ?_
            refine lv_iload_n hx hb dX6_outletLine_149 rfl (lv_at hl 0 rfl) ?_
            refine tw_rd hF hG (j := 13) (by decide) h dX6_outletLine_150 (fun v24 h => ?_)
            refine lv_sipush (v := 1999) hx hb dX6_outletLine_151 (by decide) ?_
            refine k_X6_figure hF hL0 hG hl (Nat.le_of_ble_eq_true rfl) (Nat.le_of_ble_eq_true rfl) h ⟨Nat.le_of_ble_eq_true rfl, Nat.le_of_ble_eq_true rfl⟩ (Nat.le_of_ble_eq_true rfl) dX6_outletLine_154 (fun v25 σ26 H locs h hG => ?_)
            refine tw_wr hF hL0 hG (j := 13) (by decide) h dX6_outletLine_157 (fun σ27 H locs h hG => ?_)
            refine lv_aload_n hx hb dX6_outletLine_158 rfl (lv_at hl 1 rfl) ?_
            refine tw_getR hF hG 18 13 (by decide) q1851 rfl dX6_outletLine_159 ?_
            refine lv_iload_n hx hb dX6_outletLine_162 rfl (lv_at hl 0 rfl) ?_
            refine lv_iconst (v := 2) hx hb dX6_outletLine_163 (by decide) ?_
            refine lv_iadd hx hb dX6_outletLine_164 ?_
            refine lv_aload_n hx hb dX6_outletLine_165 rfl (lv_at hl 1 rfl) ?_
            refine lv_aload_n hx hb dX6_outletLine_166 rfl (lv_at hl 1 rfl) ?_
            refine tw_getR hF hG 18 13 (by decide) q1851 rfl dX6_outletLine_167 ?_
            refine lv_iload_n hx hb dX6_outletLine_170 rfl (lv_at hl 0 rfl) ?_
            refine tw_rd hF hG (j := 13) (by decide) h dX6_outletLine_171 (fun v28 h => ?_)
            refine lv_aload_n hx hb dX6_outletLine_172 rfl (lv_at hl 1 rfl) ?_
            refine tw_getR hF hG 18 13 (by decide) q1851 rfl dX6_outletLine_173 ?_
            refine lv_iload_n hx hb dX6_outletLine_176 rfl (lv_at hl 0 rfl) ?_
            refine lv_iconst (v := 1) hx hb dX6_outletLine_177 (by decide) ?_
            refine lv_iadd hx hb dX6_outletLine_178 ?_
            refine tw_rd hF hG (j := 13) (by decide) h dX6_outletLine_179 (fun v29 h => ?_)
            refine k_X6_figure hF hL0 hG hl (Nat.le_of_ble_eq_true rfl) (Nat.le_of_ble_eq_true rfl) h ⟨Nat.le_of_ble_eq_true rfl, Nat.le_of_ble_eq_true rfl⟩ (Nat.le_of_ble_eq_true rfl) dX6_outletLine_180 (fun v30 σ31 H locs h hG => ?_)
            refine tw_wr hF hL0 hG (j := 13) (by decide) h dX6_outletLine_183 (fun σ32 H locs h hG => ?_)
            refine lv_aload_n hx hb dX6_outletLine_184 rfl (lv_at hl 1 rfl) ?_
            refine tw_getR hF hG 18 13 (by decide) q1851 rfl dX6_outletLine_185 ?_
            refine lv_iload_n hx hb dX6_outletLine_188 rfl (lv_at hl 0 rfl) ?_
            refine lv_iconst (v := 3) hx hb dX6_outletLine_189 (by decide) ?_
            refine lv_iadd hx hb dX6_outletLine_190 ?_
            refine lv_aload_n hx hb dX6_outletLine_191 rfl (lv_at hl 1 rfl) ?_
            refine lv_iconst (v := 1) hx hb dX6_outletLine_192 (by decide) ?_
            refine lv_bipush (v := 20) hx hb dX6_outletLine_193 (by decide) ?_
            refine k_X6_figure hF hL0 hG hl (Nat.le_of_ble_eq_true rfl) (Nat.le_of_ble_eq_true rfl) h ⟨Nat.le_of_ble_eq_true rfl, Nat.le_of_ble_eq_true rfl⟩ (Nat.le_of_ble_eq_true rfl) dX6_outletLine_195 (fun v33 σ34 H locs h hG => ?_)
            refine tw_wr hF hL0 hG (j := 13) (by decide) h dX6_outletLine_198 (fun σ35 H locs h hG => ?_)
            refine lv_aload_n hx hb dX6_outletLine_199 rfl (lv_at hl 1 rfl) ?_
            refine tw_getR hF hG 17 12 (by decide) q1850 rfl dX6_outletLine_200 ?_
            refine lv_aload_n hx hb dX6_outletLine_203 rfl (lv_at hl 1 rfl) ?_
            refine tw_getI hF hG 30 (by decide) q1863 rfl dX6_outletLine_204 ?_
            refine lv_iconst (v := 0) hx hb dX6_outletLine_207 (by decide) ?_
            refine k_X6_at hF hL0 hG hl (Nat.le_of_ble_eq_true rfl) (Nat.le_of_ble_eq_true rfl) h ⟨Nat.le_of_ble_eq_true rfl, Nat.le_of_ble_eq_true rfl⟩ (Nat.le_of_ble_eq_true rfl) dX6_outletLine_208 (fun v36 H locs h hG => ?_)
            refine lv_aload_n hx hb dX6_outletLine_211 rfl (lv_at hl 1 rfl) ?_
            refine lv_iconst (v := 0) hx hb dX6_outletLine_212 (by decide) ?_
            refine lv_bipush (v := 9) hx hb dX6_outletLine_213 (by decide) ?_
            refine k_X6_figure hF hL0 hG hl (Nat.le_of_ble_eq_true rfl) (Nat.le_of_ble_eq_true rfl) h ⟨Nat.le_of_ble_eq_true rfl, Nat.le_of_ble_eq_true rfl⟩ (Nat.le_of_ble_eq_true rfl) dX6_outletLine_215 (fun v37 σ38 H locs h hG => ?_)
            refine tw_wr hF hL0 hG (j := 12) (by decide) h dX6_outletLine_218 (fun σ39 H locs h hG => ?_)
            refine lv_aload_n hx hb dX6_outletLine_219 rfl (lv_at hl 1 rfl) ?_
            refine k_X6_semicolon hF hL0 hG hl (Nat.le_of_ble_eq_true rfl) (Nat.le_of_ble_eq_true rfl) h ⟨Nat.le_of_ble_eq_true rfl, Nat.le_of_ble_eq_true rfl⟩ (Nat.le_of_ble_eq_true rfl) dX6_outletLine_220 (fun σ40 H locs h hG => ?_)
            refine lv_aload_n hx hb dX6_outletLine_223 rfl (lv_at hl 1 rfl) ?_
            refine tw_getR hF hG 17 12 (by decide) q1850 rfl dX6_outletLine_224 ?_
            refine lv_aload_n hx hb dX6_outletLine_227 rfl (lv_at hl 1 rfl) ?_
            refine tw_getI hF hG 30 (by decide) q1863 rfl dX6_outletLine_228 ?_
            refine lv_iconst (v := 1) hx hb dX6_outletLine_231 (by decide) ?_
            refine k_X6_at hF hL0 hG hl (Nat.le_of_ble_eq_true rfl) (Nat.le_of_ble_eq_true rfl) h ⟨Nat.le_of_ble_eq_true rfl, Nat.le_of_ble_eq_true rfl⟩ (Nat.le_of_ble_eq_true rfl) dX6_outletLine_232 (fun v41 H locs h hG => ?_)
            refine lv_iconst (v := 1) hx hb dX6_outletLine_235 (by decide) ?_
            refine tw_wr hF hL0 hG (j := 12) (by decide) h dX6_outletLine_236 (fun σ42 H locs h hG => ?_)
            refine lv_aload_n hx hb dX6_outletLine_237 rfl (lv_at hl 1 rfl) ?_
            refine tw_getR hF hG 19 14 (by decide) q1852 rfl dX6_outletLine_238 ?_
            refine lv_aload_n hx hb dX6_outletLine_241 rfl (lv_at hl 1 rfl) ?_
            refine tw_getI hF hG 30 (by decide) q1863 rfl dX6_outletLine_242 ?_
            refine lv_iconst (v := 0) hx hb dX6_outletLine_245 (by decide) ?_
            refine tw_wr hF hL0 hG (j := 14) (by decide) h dX6_outletLine_246 (fun σ43 H locs h hG => ?_)
            refine lv_aload_n hx hb dX6_outletLine_247 rfl (lv_at hl 1 rfl) ?_
            refine lv_dup hx hb dX6_outletLine_248 rfl ?_
            refine tw_getI hF hG 30 (by decide) q1863 rfl dX6_outletLine_249 ?_
            refine lv_iconst (v := 1) hx hb dX6_outletLine_252 (by decide) ?_
            refine lv_iadd hx hb dX6_outletLine_253 ?_
            refine tw_putI hF hL0 hG 30 (by decide) q1863 rfl h dX6_outletLine_254 (fun σ44 H locs h hG => ?_)
            have h := Option.some.inj h
            subst h
            exact g_vret hQ hG ⟨rfl, rfl, rfl⟩ (Nat.le_refl _) (Nat.le_refl _) dX6_outletLine_257
          have LL11 : ∀ (n : Nat) (y12 : Int32) (σ13 : TS), t_X6_outletLine_L11 n y12 σ13 = some X3 → ∀ (H : Heap) (locs : List Loc) (ls : Array Slot), gJ D clX L0 A s.heap (twG dA b σ13 G0) sz H locs → lv_has ls 3 [(0, .ref b), (2, .int y12)] → W p l e R s m args below meth c H locs 0 0 Q (F0 m 58 ls []) := by
            intro n
            induction n with
            | zero =>
              intro y12 σ13 h
              rw [t_X6_outletLine_L11] at h
              cases h
            | succ n ihL11 =>
              intro y12 σ13 h H locs ls hG hl
              rw [t_X6_outletLine_L11] at h
              refine lv_iload_n hx hb dX6_outletLine_58 rfl (lv_at hl 1 rfl) ?_
              refine lv_bipush (v := 8) hx hb dX6_outletLine_59 (by decide) ?_
              refine gb_icmp_ge hx hb dX6_outletLine_61 (tgt := 112) (by decide) h (fun h => ?_) (fun h => ?_)
              · exact J3 _ (Option.some.inj h).symm _ _ _ hG (lv_sub hl [0] rfl)
              · refine lv_aload_n hx hb dX6_outletLine_64 rfl (lv_at hl 0 rfl) ?_
                refine tw_getR hF hG 22 17 (by decide) q1855 rfl dX6_outletLine_65 ?_
                refine lv_bipush (v := 8) hx hb dX6_outletLine_68 (by decide) ?_
                refine lv_aload_n hx hb dX6_outletLine_70 rfl (lv_at hl 0 rfl) ?_
                refine tw_getI hF hG 30 (by decide) q1863 rfl dX6_outletLine_71 ?_
                refine lv_imul hx hb dX6_outletLine_74 ?_
                refine lv_iload_n hx hb dX6_outletLine_75 rfl (lv_at hl 1 rfl) ?_
                refine lv_iadd hx hb dX6_outletLine_76 ?_
                refine lv_aload_n hx hb dX6_outletLine_77 rfl (lv_at hl 0 rfl) ?_
                refine tw_getI hF hG 26 (by decide) q1859 rfl dX6_outletLine_78 ?_
                refine lv_iload_n hx hb dX6_outletLine_81 rfl (lv_at hl 1 rfl) ?_
                refine lv_iadd hx hb dX6_outletLine_82 ?_
                refine lv_aload_n hx hb dX6_outletLine_83 rfl (lv_at hl 0 rfl) ?_
                refine tw_getI hF hG 25 (by decide) q1858 rfl dX6_outletLine_84 ?_
                obtain ⟨X4, h, hJ4⟩ := ob1_u h
                have J4 : ∀ (z15 : Int32), X4 = z15 → ∀ (H : Heap) (locs : List Loc) (ls : Array Slot), gJ D clX L0 A s.heap (twG dA b σ13 G0) sz H locs → lv_has ls 3 [(0, .ref b), (2, .int y12)] → W p l e R s m args below meth c H locs 0 0 Q (F0 m 105 ls [.int z15, .int ((8 * (σ13.1 30)) + y12), .ref (b + 17)]) := by
                  intro z15 e0 H locs ls hG hl
                  have h := hJ4 z15 e0
                  refine tw_wr hF hL0 hG (j := 17) (by decide) h dX6_outletLine_105 (fun σ16 H locs h hG => ?_)
                  refine gb_iinc (k' := 1) hx hb dX6_outletLine_106 hl (k := 1) rfl (by decide) (Nat.le_of_ble_eq_true rfl) h (fun x17 ls h hl => ?_)
                  have hl : lv_has ls 3 [(2, .int x17), (0, .ref b)] := hl
                  refine lv_goto hx hb dX6_outletLine_109 (tgt := 58) (by decide) ?_
                  exact ihL11 _ _ h _ _ _ hG (lv_sub hl [1, 0] rfl)
                refine gb_icmp_ge hx hb dX6_outletLine_87 (tgt := 104) (by decide) h (fun h => ?_) (fun h => ?_)
                · refine lv_iconst (v := 0) hx hb dX6_outletLine_104 (by decide) ?_
                  exact J4 _ (Option.some.inj h).symm _ _ _ hG hl
                · refine lv_aload_n hx hb dX6_outletLine_90 rfl (lv_at hl 0 rfl) ?_
                  refine tw_getR hF hG 16 11 (by decide) q1849 rfl dX6_outletLine_91 ?_
                  refine lv_aload_n hx hb dX6_outletLine_94 rfl (lv_at hl 0 rfl) ?_
                  refine tw_getI hF hG 26 (by decide) q1859 rfl dX6_outletLine_95 ?_
                  refine lv_iload_n hx hb dX6_outletLine_98 rfl (lv_at hl 1 rfl) ?_
                  refine lv_iadd hx hb dX6_outletLine_99 ?_
                  refine tw_rd hF hG (j := 11) (by decide) h dX6_outletLine_100 (fun v14 h => ?_)
                  refine lv_goto hx hb dX6_outletLine_101 (tgt := 105) (by decide) ?_
                  exact J4 _ (Option.some.inj h).symm _ _ _ hG hl
          exact LL11 _ _ _ h _ _ _ hG (lv_sub hl [1, 0] rfl)
        · have h := Option.some.inj h
          subst h
          exact g_vret hQ hG ⟨rfl, rfl, rfl⟩ (Nat.le_refl _) (Nat.le_refl _) dX6_outletLine_55
      refine gb_if_ne hx hb dX6_outletLine_35 (tgt := 48) (by decide) h (fun h => ?_) (fun h => ?_)
      · exact J2 _ (Option.some.inj h).symm _ _ _ hG (lv_sub hl [1] rfl)
      · refine lv_iload_n hx hb dX6_outletLine_38 rfl (lv_at hl 0 rfl) ?_
        refine lv_iconst (v := (-1)) hx hb dX6_outletLine_39 (by decide) ?_
        refine gb_icmp_eq hx hb dX6_outletLine_40 (tgt := 48) (by decide) h (fun h => ?_) (fun h => ?_)
        · exact J2 _ (Option.some.inj h).symm _ _ _ hG (lv_sub hl [1] rfl)
        · refine lv_aload_n hx hb dX6_outletLine_43 rfl (lv_at hl 1 rfl) ?_
          refine lv_iconst (v := 3) hx hb dX6_outletLine_44 (by decide) ?_
          refine k_X6_fails hF hL0 hG hl (Nat.le_of_ble_eq_true rfl) (Nat.le_of_ble_eq_true rfl) h ⟨Nat.le_of_ble_eq_true rfl, Nat.le_of_ble_eq_true rfl⟩ (Nat.le_of_ble_eq_true rfl) dX6_outletLine_45 (fun σ8 H locs h hG => ?_)
          exact J2 _ (Option.some.inj h).symm _ _ _ hG (lv_sub hl [1] rfl)
    · have h := Option.some.inj h
      subst h
      exact g_vret hQ hG ⟨rfl, rfl, rfl⟩ (Nat.le_refl _) (Nat.le_refl _) dX6_outletLine_21
  refine gb_icmp_ne hx hb dX6_outletLine_6 (tgt := 14) (by decide) h (fun h => ?_) (fun h => ?_)
  · exact J1 _ (Option.some.inj h).symm _ _ _ hG hl
  · refine lv_aload_n hx hb dX6_outletLine_9 rfl (lv_at hl 0 rfl) ?_
    refine lv_iconst (v := 5) hx hb dX6_outletLine_10 (by decide) ?_
    refine k_X6_fails hF hL0 hG hl (Nat.le_of_ble_eq_true rfl) (Nat.le_of_ble_eq_true rfl) h ⟨Nat.le_of_ble_eq_true rfl, Nat.le_of_ble_eq_true rfl⟩ (Nat.le_of_ble_eq_true rfl) dX6_outletLine_11 (fun σ1 H locs h hG => ?_)
    exact J1 _ (Option.some.inj h).symm _ _ _ hG hl
theorem k_X6_outletLine (hF : gX p m c cc nL s args RX6 D clX (tyA dA) K A R rm) (hL0 : L0 ≤ b) (hG : gJ D clX L0 A s.heap (twG dA b σ G0) n H locs) (hl : lv_has ls nL lv) (h1 : 4 + 1 ≤ rm.frames) (h2 : 8 + (3 + 11) + 83 ≤ rm.locals) {γ : Type} {f : TS → Option γ} {o : γ} (h : ob1 (t_X6_outletLine σ) f = some o) (hc : cells ≤ rm.cells ∧ slots ≤ rm.slots) (hW : (rest.map fun v => v.category).sum ≤ 8) (hdg : decode cc pc = .ok (.invokevirtual 197, 3))
    (kk : ∀ (σ1 : TS) (H1 : Heap) (locs1 : List Loc), f σ1 = some o → gJ D clX L0 A s.heap (twG dA b σ1 G0) n H1 locs1 → W p l e R s m args below meth c H1 locs1 cells slots Q (F0 m (pc + 3) ls rest)) : W p l e R s m args below meth c H locs cells slots Q (F0 m pc ls (.ref b :: rest)) := by
  obtain ⟨r, hr, h⟩ := ob1_e h
  refine g_callV hF hG hl twG_obj (C := RX6) (T := TX6) (N := 35) rfl (w_X6_outletLine hF.2.2.1 hL0 σ hr) (cwV 0 hF.1.2.2.2.2 (lw_V q2015 q2017 qs47 q108 q2018) rfl rfl rfl (by decide +kernel) (g_room hF h1 h2)) rfl rfl hW hdg ⟨by rw [hF.2.2.2.2]; exact hc.1, by rw [hF.2.2.2.2]; exact hc.2⟩ (fun v G1 n1 H1 locs1 hR hG1 => ?_)
  obtain ⟨rfl, rfl, rfl⟩ := hR
  exact kk r H1 locs1 h hG1
/-! needLine -/
def t_X6_needLine (σ : TS) : Option (TS) :=
ob1 (
if (σ.1 31) = 16 then (
ob1 (t_X6_fails σ 5) fun (σ1 : TS) =>
some σ1)
else (
some σ)) fun (σ2 : TS) =>
ob1 (t_X6_isWrong σ2) fun (v3 : Int32) =>
if v3 = 0 then (
ob1 (t_X6_token σ2) fun (σ4 : TS) =>
ob2 (t_X6_looksUp σ4) fun (v5 : Int32) (σ6 : TS) =>
ob1 (t_X6_isWrong σ6) fun (v7 : Int32) =>
ob1 (
if v7 = 0 then (
if v5 = (-1) then (
ob1 (t_X6_fails σ6 4) fun (σ8 : TS) =>
some σ8)
else (
some σ6))
else (
some σ6)) fun (σ9 : TS) =>
ob1 (t_X6_isWrong σ9) fun (v10 : Int32) =>
ob1 (
if v10 = 0 then (
ob1 (t_X6_token σ9) fun (σ11 : TS) =>
some σ11)
else (
some σ9)) fun (σ12 : TS) =>
ob2 (t_X6_looksUp σ12) fun (v13 : Int32) (σ14 : TS) =>
ob1 (t_X6_isWrong σ14) fun (v15 : Int32) =>
if v15 = 0 then (
ob1 (
if v13 = (-1) then (
ob1 (t_X6_fails σ14 4) fun (σ19 : TS) =>
some σ19)
else (
if v5 = v13 then (
ob1 (t_X6_fails σ14 3) fun (σ16 : TS) =>
some σ16)
else (
ob1 (T_rd σ14 14 v5) fun (v17 : Int32) =>
if ((v17 >>> (v13 &&& 31)) &&& 1) = 1 then (
ob1 (t_X6_fails σ14 3) fun (σ18 : TS) =>
some σ18)
else (
some σ14)))) fun (σ20 : TS) =>
ob1 (t_X6_isWrong σ20) fun (v21 : Int32) =>
if v21 = 0 then (
ob1 (T_rd σ20 14 v5) fun (v22 : Int32) =>
ob1 (T_wr σ20 14 v5 (v22 ||| (1 <<< (v13 &&& 31)))) fun (σ23 : TS) =>
nm (T_sf σ23 31 ((σ23.1 31) + 1)) fun (σ24 : TS) =>
ob1 (t_X6_token σ24) fun (σ25 : TS) =>
ob1 (t_X6_semicolon σ25) fun (σ26 : TS) =>
some σ26)
else (
some σ20))
else (
some σ14))
else (
some σ2)
set_option maxRecDepth 100000 in
theorem w_X6_needLine {l : Launch} {D : va_G} {dA : Nat → ClassId} {K : gKT} {L0 b sz : Nat} {G0 : GH} (hKo : gKo D clX (tyA dA) K) (hL0 : L0 ≤ b) (σ : TS)  {out : TS} (h : t_X6_needLine σ = some out) : gMet l yX6_needLine (ws_ yX6_needLine cX6_needLine 3 none) D clX L0 K [.ref b] (twG dA b σ G0) sz 4 83 0 0 (twRV dA b out G0 sz) := by
  refine gMet.of (own := RX6) hKo (by decide +kernel) (Nat.le_of_ble_eq_true rfl) rfl ?_
  intro p e R s m args below meth c A Q ls H hF hQ hin hG hl
  have hx := hF.1.1
  have hb := hF.1.2.1
  have hts := hF.1.2.2.2.2
  have hl : lv_has ls 3 [(0, .ref b)] := hl
  unfold t_X6_needLine at h
  refine lv_aload_n hx hb dX6_needLine_0 rfl (lv_at hl 0 rfl) ?_
  refine tw_getI hF hG 31 (by decide) q1864 rfl dX6_needLine_1 ?_
  refine lv_bipush (v := 16) hx hb dX6_needLine_4 (by decide) ?_
  obtain ⟨X1, h, hJ1⟩ := ob1_u h
  have J1 : ∀ (σ2 : TS), X1 = σ2 → ∀ (H : Heap) (locs : List Loc) (ls : Array Slot), gJ D clX L0 A s.heap (twG dA b σ2 G0) sz H locs → lv_has ls 3 [(0, .ref b)] → W p l e R s m args below meth c H locs 0 0 Q (F0 m 14 ls []) := by
    intro σ2 e0 H locs ls hG hl
    have h := hJ1 σ2 e0
    refine lv_aload_n hx hb dX6_needLine_14 rfl (lv_at hl 0 rfl) ?_
    refine k_X6_isWrong hF hL0 hG hl (Nat.le_of_ble_eq_true rfl) (Nat.le_of_ble_eq_true rfl) h ⟨Nat.le_of_ble_eq_true rfl, Nat.le_of_ble_eq_true rfl⟩ (Nat.le_of_ble_eq_true rfl) dX6_needLine_15 (fun v3 H locs h hG => ?_)
    refine gb_if_eq hx hb dX6_needLine_18 (tgt := 22) (by decide) h (fun h => ?_) (fun h => ?_)
    · refine lv_aload_n hx hb dX6_needLine_22 rfl (lv_at hl 0 rfl) ?_
      refine k_X6_token hF hL0 hG hl (Nat.le_of_ble_eq_true rfl) (Nat.le_of_ble_eq_true rfl) h ⟨Nat.le_of_ble_eq_true rfl, Nat.le_of_ble_eq_true rfl⟩ (Nat.le_of_ble_eq_true rfl) dX6_needLine_23 (fun σ4 H locs h hG => ?_)
      refine lv_aload_n hx hb dX6_needLine_26 rfl (lv_at hl 0 rfl) ?_
      refine k_X6_looksUp hF hL0 hG hl (Nat.le_of_ble_eq_true rfl) (Nat.le_of_ble_eq_true rfl) h ⟨Nat.le_of_ble_eq_true rfl, Nat.le_of_ble_eq_true rfl⟩ (Nat.le_of_ble_eq_true rfl) dX6_needLine_27 (fun v5 σ6 H locs h hG => ?_)
      refine lv_istore_n hx hb dX6_needLine_30 rfl hl (Nat.le_of_ble_eq_true rfl) (lv' := [(1, .int v5), (0, .ref b)]) rfl (fun ls hl => ?_)
      refine lv_aload_n hx hb dX6_needLine_31 rfl (lv_at hl 1 rfl) ?_
      refine k_X6_isWrong hF hL0 hG hl (Nat.le_of_ble_eq_true rfl) (Nat.le_of_ble_eq_true rfl) h ⟨Nat.le_of_ble_eq_true rfl, Nat.le_of_ble_eq_true rfl⟩ (Nat.le_of_ble_eq_true rfl) dX6_needLine_32 (fun v7 H locs h hG => ?_)
      obtain ⟨X2, h, hJ2⟩ := ob1_u h
      have J2 : ∀ (σ9 : TS), X2 = σ9 → ∀ (H : Heap) (locs : List Loc) (ls : Array Slot), gJ D clX L0 A s.heap (twG dA b σ9 G0) sz H locs → lv_has ls 3 [(0, .ref b), (1, .int v5)] → W p l e R s m args below meth c H locs 0 0 Q (F0 m 48 ls []) := by
        intro σ9 e0 H locs ls hG hl
        have h := hJ2 σ9 e0
        refine lv_aload_n hx hb dX6_needLine_48 rfl (lv_at hl 0 rfl) ?_
        refine k_X6_isWrong hF hL0 hG hl (Nat.le_of_ble_eq_true rfl) (Nat.le_of_ble_eq_true rfl) h ⟨Nat.le_of_ble_eq_true rfl, Nat.le_of_ble_eq_true rfl⟩ (Nat.le_of_ble_eq_true rfl) dX6_needLine_49 (fun v10 H locs h hG => ?_)
        obtain ⟨X3, h, hJ3⟩ := ob1_u h
        have J3 : ∀ (σ12 : TS), X3 = σ12 → ∀ (H : Heap) (locs : List Loc) (ls : Array Slot), gJ D clX L0 A s.heap (twG dA b σ12 G0) sz H locs → lv_has ls 3 [(0, .ref b), (1, .int v5)] → W p l e R s m args below meth c H locs 0 0 Q (F0 m 59 ls []) := by
          intro σ12 e0 H locs ls hG hl
          have h := hJ3 σ12 e0
          refine lv_aload_n hx hb dX6_needLine_59 rfl (lv_at hl 0 rfl) ?_
          refine k_X6_looksUp hF hL0 hG hl (Nat.le_of_ble_eq_true rfl) (Nat.le_of_ble_eq_true rfl) h ⟨Nat.le_of_ble_eq_true rfl, Nat.le_of_ble_eq_true rfl⟩ (Nat.le_of_ble_eq_true rfl) dX6_needLine_60 (fun v13 σ14 H locs h hG => ?_)
          refine lv_istore_n hx hb dX6_needLine_63 rfl hl (Nat.le_of_ble_eq_true rfl) (lv' := [(2, .int v13), (0, .ref b), (1, .int v5)]) rfl (fun ls hl => ?_)
          refine lv_aload_n hx hb dX6_needLine_64 rfl (lv_at hl 1 rfl) ?_
          refine k_X6_isWrong hF hL0 hG hl (Nat.le_of_ble_eq_true rfl) (Nat.le_of_ble_eq_true rfl) h ⟨Nat.le_of_ble_eq_true rfl, Nat.le_of_ble_eq_true rfl⟩ (Nat.le_of_ble_eq_true rfl) dX6_needLine_65 (fun v15 H locs h hG => ?_)
          refine gb_if_eq hx hb dX6_needLine_68 (tgt := 72) (by decide) h (fun h => ?_) (fun h => ?_)
          · refine lv_iload_n hx hb dX6_needLine_72 rfl (lv_at hl 0 rfl) ?_
            refine lv_iconst (v := (-1)) hx hb dX6_needLine_73 (by decide) ?_
            obtain ⟨X4, h, hJ4⟩ := ob1_u h
            have J4 : ∀ (σ20 : TS), X4 = σ20 → ∀ (H : Heap) (locs : List Loc) (ls : Array Slot), gJ D clX L0 A s.heap (twG dA b σ20 G0) sz H locs → lv_has ls 3 [(0, .ref b), (1, .int v5), (2, .int v13)] → W p l e R s m args below meth c H locs 0 0 Q (F0 m 109 ls []) := by
              intro σ20 e0 H locs ls hG hl
              have h := hJ4 σ20 e0
              refine lv_aload_n hx hb dX6_needLine_109 rfl (lv_at hl 0 rfl) ?_
              refine k_X6_isWrong hF hL0 hG hl (Nat.le_of_ble_eq_true rfl) (Nat.le_of_ble_eq_true rfl) h ⟨Nat.le_of_ble_eq_true rfl, Nat.le_of_ble_eq_true rfl⟩ (Nat.le_of_ble_eq_true rfl) dX6_needLine_110 (fun v21 H locs h hG => ?_)
              refine gb_if_eq hx hb dX6_needLine_113 (tgt := 117) (by decide) h (fun h => ?_) (fun h => ?_)
              · refine lv_aload_n hx hb dX6_needLine_117 rfl (lv_at hl 0 rfl) ?_
                refine tw_getR hF hG 19 14 (by decide) q1852 rfl dX6_needLine_118 ?_
                refine lv_iload_n hx hb dX6_needLine_121 rfl (lv_at hl 1 rfl) ?_
                refine lv_dup2_11 hx hb dX6_needLine_122 rfl rfl ?_
                refine tw_rd hF hG (j := 14) (by decide) h dX6_needLine_123 (fun v22 h => ?_)
                refine lv_iconst (v := 1) hx hb dX6_needLine_124 (by decide) ?_
                refine lv_iload_n hx hb dX6_needLine_125 rfl (lv_at hl 2 rfl) ?_
                refine lv_ishl hx hb dX6_needLine_126 ?_
                refine lv_ior hx hb dX6_needLine_127 ?_
                refine tw_wr hF hL0 hG (j := 14) (by decide) h dX6_needLine_128 (fun σ23 H locs h hG => ?_)
                refine lv_aload_n hx hb dX6_needLine_129 rfl (lv_at hl 0 rfl) ?_
                refine lv_dup hx hb dX6_needLine_130 rfl ?_
                refine tw_getI hF hG 31 (by decide) q1864 rfl dX6_needLine_131 ?_
                refine lv_iconst (v := 1) hx hb dX6_needLine_134 (by decide) ?_
                refine lv_iadd hx hb dX6_needLine_135 ?_
                refine tw_putI hF hL0 hG 31 (by decide) q1864 rfl h dX6_needLine_136 (fun σ24 H locs h hG => ?_)
                refine lv_aload_n hx hb dX6_needLine_139 rfl (lv_at hl 0 rfl) ?_
                refine k_X6_token hF hL0 hG hl (Nat.le_of_ble_eq_true rfl) (Nat.le_of_ble_eq_true rfl) h ⟨Nat.le_of_ble_eq_true rfl, Nat.le_of_ble_eq_true rfl⟩ (Nat.le_of_ble_eq_true rfl) dX6_needLine_140 (fun σ25 H locs h hG => ?_)
                refine lv_aload_n hx hb dX6_needLine_143 rfl (lv_at hl 0 rfl) ?_
                refine k_X6_semicolon hF hL0 hG hl (Nat.le_of_ble_eq_true rfl) (Nat.le_of_ble_eq_true rfl) h ⟨Nat.le_of_ble_eq_true rfl, Nat.le_of_ble_eq_true rfl⟩ (Nat.le_of_ble_eq_true rfl) dX6_needLine_144 (fun σ26 H locs h hG => ?_)
                have h := Option.some.inj h
                subst h
                exact g_vret hQ hG ⟨rfl, rfl, rfl⟩ (Nat.le_refl _) (Nat.le_refl _) dX6_needLine_147
              · have h := Option.some.inj h
                subst h
                exact g_vret hQ hG ⟨rfl, rfl, rfl⟩ (Nat.le_refl _) (Nat.le_refl _) dX6_needLine_116
            refine gb_icmp_ne hx hb dX6_needLine_74 (tgt := 85) (by decide) h (fun h => ?_) (fun h => ?_)
            · refine lv_iload_n hx hb dX6_needLine_85 rfl (lv_at hl 2 rfl) ?_
              refine lv_iload_n hx hb dX6_needLine_86 rfl (lv_at hl 0 rfl) ?_
              refine gb_icmp_eq hx hb dX6_needLine_87 (tgt := 104) (by decide) h (fun h => ?_) (fun h => ?_)
              · refine lv_aload_n hx hb dX6_needLine_104 rfl (lv_at hl 1 rfl) ?_
                refine lv_iconst (v := 3) hx hb dX6_needLine_105 (by decide) ?_
                refine k_X6_fails hF hL0 hG hl (Nat.le_of_ble_eq_true rfl) (Nat.le_of_ble_eq_true rfl) h ⟨Nat.le_of_ble_eq_true rfl, Nat.le_of_ble_eq_true rfl⟩ (Nat.le_of_ble_eq_true rfl) dX6_needLine_106 (fun σ16 H locs h hG => ?_)
                exact J4 _ (Option.some.inj h).symm _ _ _ hG (lv_sub hl [1, 2, 0] rfl)
              · refine lv_aload_n hx hb dX6_needLine_90 rfl (lv_at hl 1 rfl) ?_
                refine tw_getR hF hG 19 14 (by decide) q1852 rfl dX6_needLine_91 ?_
                refine lv_iload_n hx hb dX6_needLine_94 rfl (lv_at hl 2 rfl) ?_
                refine tw_rd hF hG (j := 14) (by decide) h dX6_needLine_95 (fun v17 h => ?_)
                refine lv_iload_n hx hb dX6_needLine_96 rfl (lv_at hl 0 rfl) ?_
                refine lv_ishr hx hb dX6_needLine_97 ?_
                refine lv_iconst (v := 1) hx hb dX6_needLine_98 (by decide) ?_
                refine lv_iand hx hb dX6_needLine_99 ?_
                refine lv_iconst (v := 1) hx hb dX6_needLine_100 (by decide) ?_
                refine gb_icmp_ne hx hb dX6_needLine_101 (tgt := 109) (by decide) h (fun h => ?_) (fun h => ?_)
                · exact J4 _ (Option.some.inj h).symm _ _ _ hG (lv_sub hl [1, 2, 0] rfl)
                · refine lv_aload_n hx hb dX6_needLine_104 rfl (lv_at hl 1 rfl) ?_
                  refine lv_iconst (v := 3) hx hb dX6_needLine_105 (by decide) ?_
                  refine k_X6_fails hF hL0 hG hl (Nat.le_of_ble_eq_true rfl) (Nat.le_of_ble_eq_true rfl) h ⟨Nat.le_of_ble_eq_true rfl, Nat.le_of_ble_eq_true rfl⟩ (Nat.le_of_ble_eq_true rfl) dX6_needLine_106 (fun σ18 H locs h hG => ?_)
                  exact J4 _ (Option.some.inj h).symm _ _ _ hG (lv_sub hl [1, 2, 0] rfl)
            · refine lv_aload_n hx hb dX6_needLine_77 rfl (lv_at hl 1 rfl) ?_
              refine lv_iconst (v := 4) hx hb dX6_needLine_78 (by decide) ?_
              refine k_X6_fails hF hL0 hG hl (Nat.le_of_ble_eq_true rfl) (Nat.le_of_ble_eq_true rfl) h ⟨Nat.le_of_ble_eq_true rfl, Nat.le_of_ble_eq_true rfl⟩ (Nat.le_of_ble_eq_true rfl) dX6_needLine_79 (fun σ19 H locs h hG => ?_)
              refine lv_goto hx hb dX6_needLine_82 (tgt := 109) (by decide) ?_
              exact J4 _ (Option.some.inj h).symm _ _ _ hG (lv_sub hl [1, 2, 0] rfl)
          · have h := Option.some.inj h
            subst h
            exact g_vret hQ hG ⟨rfl, rfl, rfl⟩ (Nat.le_refl _) (Nat.le_refl _) dX6_needLine_71
        refine gb_if_ne hx hb dX6_needLine_52 (tgt := 59) (by decide) h (fun h => ?_) (fun h => ?_)
        · exact J3 _ (Option.some.inj h).symm _ _ _ hG hl
        · refine lv_aload_n hx hb dX6_needLine_55 rfl (lv_at hl 0 rfl) ?_
          refine k_X6_token hF hL0 hG hl (Nat.le_of_ble_eq_true rfl) (Nat.le_of_ble_eq_true rfl) h ⟨Nat.le_of_ble_eq_true rfl, Nat.le_of_ble_eq_true rfl⟩ (Nat.le_of_ble_eq_true rfl) dX6_needLine_56 (fun σ11 H locs h hG => ?_)
          exact J3 _ (Option.some.inj h).symm _ _ _ hG hl
      refine gb_if_ne hx hb dX6_needLine_35 (tgt := 48) (by decide) h (fun h => ?_) (fun h => ?_)
      · exact J2 _ (Option.some.inj h).symm _ _ _ hG (lv_sub hl [1, 0] rfl)
      · refine lv_iload_n hx hb dX6_needLine_38 rfl (lv_at hl 0 rfl) ?_
        refine lv_iconst (v := (-1)) hx hb dX6_needLine_39 (by decide) ?_
        refine gb_icmp_ne hx hb dX6_needLine_40 (tgt := 48) (by decide) h (fun h => ?_) (fun h => ?_)
        · exact J2 _ (Option.some.inj h).symm _ _ _ hG (lv_sub hl [1, 0] rfl)
        · refine lv_aload_n hx hb dX6_needLine_43 rfl (lv_at hl 1 rfl) ?_
          refine lv_iconst (v := 4) hx hb dX6_needLine_44 (by decide) ?_
          refine k_X6_fails hF hL0 hG hl (Nat.le_of_ble_eq_true rfl) (Nat.le_of_ble_eq_true rfl) h ⟨Nat.le_of_ble_eq_true rfl, Nat.le_of_ble_eq_true rfl⟩ (Nat.le_of_ble_eq_true rfl) dX6_needLine_45 (fun σ8 H locs h hG => ?_)
          exact J2 _ (Option.some.inj h).symm _ _ _ hG (lv_sub hl [1, 0] rfl)
    · have h := Option.some.inj h
      subst h
      exact g_vret hQ hG ⟨rfl, rfl, rfl⟩ (Nat.le_refl _) (Nat.le_refl _) dX6_needLine_21
  refine gb_icmp_ne hx hb dX6_needLine_6 (tgt := 14) (by decide) h (fun h => ?_) (fun h => ?_)
  · exact J1 _ (Option.some.inj h).symm _ _ _ hG hl
  · refine lv_aload_n hx hb dX6_needLine_9 rfl (lv_at hl 0 rfl) ?_
    refine lv_iconst (v := 5) hx hb dX6_needLine_10 (by decide) ?_
    refine k_X6_fails hF hL0 hG hl (Nat.le_of_ble_eq_true rfl) (Nat.le_of_ble_eq_true rfl) h ⟨Nat.le_of_ble_eq_true rfl, Nat.le_of_ble_eq_true rfl⟩ (Nat.le_of_ble_eq_true rfl) dX6_needLine_11 (fun σ1 H locs h hG => ?_)
    exact J1 _ (Option.some.inj h).symm _ _ _ hG hl
theorem k_X6_needLine (hF : gX p m c cc nL s args RX6 D clX (tyA dA) K A R rm) (hL0 : L0 ≤ b) (hG : gJ D clX L0 A s.heap (twG dA b σ G0) n H locs) (hl : lv_has ls nL lv) (h1 : 4 + 1 ≤ rm.frames) (h2 : 8 + (3 + 11) + 83 ≤ rm.locals) {γ : Type} {f : TS → Option γ} {o : γ} (h : ob1 (t_X6_needLine σ) f = some o) (hc : cells ≤ rm.cells ∧ slots ≤ rm.slots) (hW : (rest.map fun v => v.category).sum ≤ 8) (hdg : decode cc pc = .ok (.invokevirtual 201, 3))
    (kk : ∀ (σ1 : TS) (H1 : Heap) (locs1 : List Loc), f σ1 = some o → gJ D clX L0 A s.heap (twG dA b σ1 G0) n H1 locs1 → W p l e R s m args below meth c H1 locs1 cells slots Q (F0 m (pc + 3) ls rest)) : W p l e R s m args below meth c H locs cells slots Q (F0 m pc ls (.ref b :: rest)) := by
  obtain ⟨r, hr, h⟩ := ob1_e h
  refine g_callV hF hG hl twG_obj (C := RX6) (T := TX6) (N := 35) rfl (w_X6_needLine hF.2.2.1 hL0 σ hr) (cwV 0 hF.1.2.2.2.2 (lw_V q2031 q2033 qs50 q108 q2034) rfl rfl rfl (by decide +kernel) (g_room hF h1 h2)) rfl rfl hW hdg ⟨by rw [hF.2.2.2.2]; exact hc.1, by rw [hF.2.2.2.2]; exact hc.2⟩ (fun v G1 n1 H1 locs1 hR hG1 => ?_)
  obtain ⟨rfl, rfl, rfl⟩ := hR
  exact kk r H1 locs1 h hG1
/-! scriptHere -/
def t_X6_scriptHere_L4 (σ : TS) : Nat → Int32 → Int32 → Option (Int32)
  | 0, _, _ => none
  | n + 1, y5, y6 =>
    if (σ.1 25) ≤ y6 then (
    some y5)
    else (
    if y5 = 0 then (
    some y5)
    else (
    ob1 (t_X6_byteAt σ y6) fun (v7 : Int32) =>
    ob1 (
    if 49 < v7 then (
    some (0 : Int32))
    else (
    some (1 : Int32))) fun (z8 : Int32) =>
    nm (y6 + 1) fun (x9 : Int32) =>
    t_X6_scriptHere_L4 σ n z8 x9))
def t_X6_scriptHere_L15 : Nat → Int32 → TS → Option (TS)
  | 0, _, _ => none
  | n + 1, y16, σ17 =>
    if (σ17.1 32) ≤ y16 then (
    some σ17)
    else (
    ob1 (t_X6_byteAt σ17 ((σ17.1 26) + y16)) fun (v18 : Int32) =>
    ob1 (T_wr σ17 15 y16 (v18 - 48)) fun (σ19 : TS) =>
    nm (y16 + 1) fun (x20 : Int32) =>
    t_X6_scriptHere_L15 n x20 σ19)
def t_X6_scriptHere (σ : TS) : Option (TS) :=
ob1 (t_X6_isWrong σ) fun (v1 : Int32) =>
ob1 (
if v1 = 0 then (
if (σ.1 27) = 2 then (
if 24 < ((σ.1 25) - (σ.1 26)) then (
some (0 : Int32))
else (
some (1 : Int32)))
else (
some (0 : Int32)))
else (
some (0 : Int32))) fun (z2 : Int32) =>
nm (σ.1 26) fun (x3 : Int32) =>
ob1 (
t_X6_scriptHere_L4 σ 4096 z2 x3) fun (z10 : Int32) =>
ob1 (
if z10 = 0 then (
ob1 (t_X6_fails σ 1) fun (σ11 : TS) =>
some σ11)
else (
some σ)) fun (σ12 : TS) =>
ob1 (t_X6_isWrong σ12) fun (v13 : Int32) =>
if v13 = 0 then (
nm (T_sf σ12 32 ((σ12.1 25) - (σ12.1 26))) fun (σ14 : TS) =>
ob1 (
t_X6_scriptHere_L15 4096 0 σ14) fun (σ21 : TS) =>
ob1 (t_X6_token σ21) fun (σ22 : TS) =>
some σ22)
else (
some σ12)
set_option maxRecDepth 100000 in
theorem w_X6_scriptHere {l : Launch} {D : va_G} {dA : Nat → ClassId} {K : gKT} {L0 b sz : Nat} {G0 : GH} (hKo : gKo D clX (tyA dA) K) (hL0 : L0 ≤ b) (σ : TS)  {out : TS} (h : t_X6_scriptHere σ = some out) : gMet l yX6_scriptHere (ws_ yX6_scriptHere cX6_scriptHere 3 none) D clX L0 K [.ref b] (twG dA b σ G0) sz 2 42 0 0 (twRV dA b out G0 sz) := by
  refine gMet.of (own := RX6) hKo (by decide +kernel) (Nat.le_of_ble_eq_true rfl) rfl ?_
  intro p e R s m args below meth c A Q ls H hF hQ hin hG hl
  have hx := hF.1.1
  have hb := hF.1.2.1
  have hts := hF.1.2.2.2.2
  have hl : lv_has ls 3 [(0, .ref b)] := hl
  unfold t_X6_scriptHere at h
  refine lv_aload_n hx hb dX6_scriptHere_0 rfl (lv_at hl 0 rfl) ?_
  refine k_X6_isWrong hF hL0 hG hl (Nat.le_of_ble_eq_true rfl) (Nat.le_of_ble_eq_true rfl) h ⟨Nat.le_of_ble_eq_true rfl, Nat.le_of_ble_eq_true rfl⟩ (Nat.le_of_ble_eq_true rfl) dX6_scriptHere_1 (fun v1 H locs h hG => ?_)
  obtain ⟨X1, h, hJ1⟩ := ob1_u h
  have J1 : ∀ (z2 : Int32), X1 = z2 → ∀ (H : Heap) (locs : List Loc) (ls : Array Slot), gJ D clX L0 A s.heap (twG dA b σ G0) sz H locs → lv_has ls 3 [(0, .ref b)] → W p l e R s m args below meth c H locs 0 0 Q (F0 m 34 ls [.int z2]) := by
    intro z2 e0 H locs ls hG hl
    have h := hJ1 z2 e0
    refine lv_istore_n hx hb dX6_scriptHere_34 rfl hl (Nat.le_of_ble_eq_true rfl) (lv' := [(1, .int z2), (0, .ref b)]) rfl (fun ls hl => ?_)
    refine lv_aload_n hx hb dX6_scriptHere_35 rfl (lv_at hl 1 rfl) ?_
    refine tw_getI hF hG 26 (by decide) q1859 rfl dX6_scriptHere_36 ?_
    refine gb_nm h (fun x3 h => ?_)
    refine lv_istore_n hx hb dX6_scriptHere_39 rfl hl (Nat.le_of_ble_eq_true rfl) (lv' := [(2, .int x3), (1, .int z2), (0, .ref b)]) rfl (fun ls hl => ?_)
    obtain ⟨X2, h, hJ2⟩ := ob1_u h
    have J2 : ∀ (z10 : Int32), X2 = z10 → ∀ (H : Heap) (locs : List Loc) (ls : Array Slot), gJ D clX L0 A s.heap (twG dA b σ G0) sz H locs → lv_has ls 3 [(0, .ref b), (1, .int z10)] → W p l e R s m args below meth c H locs 0 0 Q (F0 m 74 ls []) := by
      intro z10 e0 H locs ls hG hl
      have h := hJ2 z10 e0
      refine lv_iload_n hx hb dX6_scriptHere_74 rfl (lv_at hl 1 rfl) ?_
      obtain ⟨X3, h, hJ3⟩ := ob1_u h
      have J3 : ∀ (σ12 : TS), X3 = σ12 → ∀ (H : Heap) (locs : List Loc) (ls : Array Slot), gJ D clX L0 A s.heap (twG dA b σ12 G0) sz H locs → lv_has ls 3 [(0, .ref b)] → W p l e R s m args below meth c H locs 0 0 Q (F0 m 83 ls []) := by
        intro σ12 e0 H locs ls hG hl
        have h := hJ3 σ12 e0
        refine lv_aload_n hx hb dX6_scriptHere_83 rfl (lv_at hl 0 rfl) ?_
        refine k_X6_isWrong hF hL0 hG hl (Nat.le_of_ble_eq_true rfl) (Nat.le_of_ble_eq_true rfl) h ⟨Nat.le_of_ble_eq_true rfl, Nat.le_of_ble_eq_true rfl⟩ (Nat.le_of_ble_eq_true rfl) dX6_scriptHere_84 (fun v13 H locs h hG => ?_)
        refine gb_if_eq hx hb dX6_scriptHere_87 (tgt := 91) (by decide) h (fun h => ?_) (fun h => ?_)
        · refine lv_aload_n hx hb dX6_scriptHere_91 rfl (lv_at hl 0 rfl) ?_
          refine lv_aload_n hx hb dX6_scriptHere_92 rfl (lv_at hl 0 rfl) ?_
          refine tw_getI hF hG 25 (by decide) q1858 rfl dX6_scriptHere_93 ?_
          refine lv_aload_n hx hb dX6_scriptHere_96 rfl (lv_at hl 0 rfl) ?_
          refine tw_getI hF hG 26 (by decide) q1859 rfl dX6_scriptHere_97 ?_
          refine lv_isub hx hb dX6_scriptHere_100 ?_
          refine tw_putI hF hL0 hG 32 (by decide) q1865 rfl h dX6_scriptHere_101 (fun σ14 H locs h hG => ?_)
          refine lv_iconst (v := 0) hx hb dX6_scriptHere_104 (by decide) ?_
          refine lv_istore_n hx hb dX6_scriptHere_105 rfl hl (Nat.le_of_ble_eq_true rfl) (lv' := [(2, .int 0), (0, .ref b)]) rfl (fun ls hl => ?_)
          obtain ⟨X4, h, hJ4⟩ := ob1_u h
          have J4 : ∀ (σ21 : TS), X4 = σ21 → ∀ (H : Heap) (locs : List Loc) (ls : Array Slot), gJ D clX L0 A s.heap (twG dA b σ21 G0) sz H locs → lv_has ls 3 [(0, .ref b)] → W p l e R s m args below meth c H locs 0 0 Q (F0 m 139 ls []) := by
            intro σ21 e0 H locs ls hG hl
            have h := hJ4 σ21 e0
            refine lv_aload_n hx hb dX6_scriptHere_139 rfl (lv_at hl 0 rfl) ?_
            refine k_X6_token hF hL0 hG hl (Nat.le_of_ble_eq_true rfl) (Nat.le_of_ble_eq_true rfl) h ⟨Nat.le_of_ble_eq_true rfl, Nat.le_of_ble_eq_true rfl⟩ (Nat.le_of_ble_eq_true rfl) dX6_scriptHere_140 (fun σ22 H locs h hG => ?_)
            have h := Option.some.inj h
            subst h
            exact g_vret hQ hG ⟨rfl, rfl, rfl⟩ (Nat.le_refl _) (Nat.le_refl _) dX6_scriptHere_143
          have LL15 : ∀ (n : Nat) (y16 : Int32) (σ17 : TS), t_X6_scriptHere_L15 n y16 σ17 = some X4 → ∀ (H : Heap) (locs : List Loc) (ls : Array Slot), gJ D clX L0 A s.heap (twG dA b σ17 G0) sz H locs → lv_has ls 3 [(0, .ref b), (2, .int y16)] → W p l e R s m args below meth c H locs 0 0 Q (F0 m 106 ls []) := by
            intro n
            induction n with
            | zero =>
              intro y16 σ17 h
              rw [t_X6_scriptHere_L15] at h
              cases h
            | succ n ihL15 =>
              intro y16 σ17 h H locs ls hG hl
              rw [t_X6_scriptHere_L15] at h
              refine lv_iload_n hx hb dX6_scriptHere_106 rfl (lv_at hl 1 rfl) ?_
              refine lv_aload_n hx hb dX6_scriptHere_107 rfl (lv_at hl 0 rfl) ?_
              refine tw_getI hF hG 32 (by decide) q1865 rfl dX6_scriptHere_108 ?_
              refine gb_icmp_ge hx hb dX6_scriptHere_111 (tgt := 139) (by decide) h (fun h => ?_) (fun h => ?_)
              · exact J4 _ (Option.some.inj h).symm _ _ _ hG (lv_sub hl [0] rfl)
              · refine lv_aload_n hx hb dX6_scriptHere_114 rfl (lv_at hl 0 rfl) ?_
                refine tw_getR hF hG 20 15 (by decide) q1853 rfl dX6_scriptHere_115 ?_
                refine lv_iload_n hx hb dX6_scriptHere_118 rfl (lv_at hl 1 rfl) ?_
                refine lv_aload_n hx hb dX6_scriptHere_119 rfl (lv_at hl 0 rfl) ?_
                refine lv_aload_n hx hb dX6_scriptHere_120 rfl (lv_at hl 0 rfl) ?_
                refine tw_getI hF hG 26 (by decide) q1859 rfl dX6_scriptHere_121 ?_
                refine lv_iload_n hx hb dX6_scriptHere_124 rfl (lv_at hl 1 rfl) ?_
                refine lv_iadd hx hb dX6_scriptHere_125 ?_
                refine k_X6_byteAt hF hL0 hG hl (Nat.le_of_ble_eq_true rfl) (Nat.le_of_ble_eq_true rfl) h ⟨Nat.le_of_ble_eq_true rfl, Nat.le_of_ble_eq_true rfl⟩ (Nat.le_of_ble_eq_true rfl) dX6_scriptHere_126 (fun v18 H locs h hG => ?_)
                refine lv_bipush (v := 48) hx hb dX6_scriptHere_129 (by decide) ?_
                refine lv_isub hx hb dX6_scriptHere_131 ?_
                refine tw_wr hF hL0 hG (j := 15) (by decide) h dX6_scriptHere_132 (fun σ19 H locs h hG => ?_)
                refine gb_iinc (k' := 1) hx hb dX6_scriptHere_133 hl (k := 1) rfl (by decide) (Nat.le_of_ble_eq_true rfl) h (fun x20 ls h hl => ?_)
                have hl : lv_has ls 3 [(2, .int x20), (0, .ref b)] := hl
                refine lv_goto hx hb dX6_scriptHere_136 (tgt := 106) (by decide) ?_
                exact ihL15 _ _ h _ _ _ hG (lv_sub hl [1, 0] rfl)
          exact LL15 _ _ _ h _ _ _ hG (lv_sub hl [1, 0] rfl)
        · have h := Option.some.inj h
          subst h
          exact g_vret hQ hG ⟨rfl, rfl, rfl⟩ (Nat.le_refl _) (Nat.le_refl _) dX6_scriptHere_90
      refine gb_if_ne hx hb dX6_scriptHere_75 (tgt := 83) (by decide) h (fun h => ?_) (fun h => ?_)
      · exact J3 _ (Option.some.inj h).symm _ _ _ hG (lv_sub hl [0] rfl)
      · refine lv_aload_n hx hb dX6_scriptHere_78 rfl (lv_at hl 0 rfl) ?_
        refine lv_iconst (v := 1) hx hb dX6_scriptHere_79 (by decide) ?_
        refine k_X6_fails hF hL0 hG hl (Nat.le_of_ble_eq_true rfl) (Nat.le_of_ble_eq_true rfl) h ⟨Nat.le_of_ble_eq_true rfl, Nat.le_of_ble_eq_true rfl⟩ (Nat.le_of_ble_eq_true rfl) dX6_scriptHere_80 (fun σ11 H locs h hG => ?_)
        exact J3 _ (Option.some.inj h).symm _ _ _ hG (lv_sub hl [0] rfl)
    have LL4 : ∀ (n : Nat) (y5 : Int32) (y6 : Int32), t_X6_scriptHere_L4 σ n y5 y6 = some X2 → ∀ (H : Heap) (locs : List Loc) (ls : Array Slot), gJ D clX L0 A s.heap (twG dA b σ G0) sz H locs → lv_has ls 3 [(0, .ref b), (1, .int y5), (2, .int y6)] → W p l e R s m args below meth c H locs 0 0 Q (F0 m 40 ls []) := by
      intro n
      induction n with
      | zero =>
        intro y5 y6 h
        rw [t_X6_scriptHere_L4] at h
        cases h
      | succ n ihL4 =>
        intro y5 y6 h H locs ls hG hl
        rw [t_X6_scriptHere_L4] at h
        refine lv_iload_n hx hb dX6_scriptHere_40 rfl (lv_at hl 2 rfl) ?_
        refine lv_aload_n hx hb dX6_scriptHere_41 rfl (lv_at hl 0 rfl) ?_
        refine tw_getI hF hG 25 (by decide) q1858 rfl dX6_scriptHere_42 ?_
        refine gb_icmp_ge hx hb dX6_scriptHere_45 (tgt := 74) (by decide) h (fun h => ?_) (fun h => ?_)
        · exact J2 _ (Option.some.inj h).symm _ _ _ hG (lv_sub hl [0, 1] rfl)
        · refine lv_iload_n hx hb dX6_scriptHere_48 rfl (lv_at hl 1 rfl) ?_
          refine gb_if_eq hx hb dX6_scriptHere_49 (tgt := 74) (by decide) h (fun h => ?_) (fun h => ?_)
          · exact J2 _ (Option.some.inj h).symm _ _ _ hG (lv_sub hl [0, 1] rfl)
          · refine lv_aload_n hx hb dX6_scriptHere_52 rfl (lv_at hl 0 rfl) ?_
            refine lv_iload_n hx hb dX6_scriptHere_53 rfl (lv_at hl 2 rfl) ?_
            refine k_X6_byteAt hF hL0 hG hl (Nat.le_of_ble_eq_true rfl) (Nat.le_of_ble_eq_true rfl) h ⟨Nat.le_of_ble_eq_true rfl, Nat.le_of_ble_eq_true rfl⟩ (Nat.le_of_ble_eq_true rfl) dX6_scriptHere_54 (fun v7 H locs h hG => ?_)
            refine lv_bipush (v := 49) hx hb dX6_scriptHere_57 (by decide) ?_
            obtain ⟨X5, h, hJ5⟩ := ob1_u h
            have J5 : ∀ (z8 : Int32), X5 = z8 → ∀ (H : Heap) (locs : List Loc) (ls : Array Slot), gJ D clX L0 A s.heap (twG dA b σ G0) sz H locs → lv_has ls 3 [(0, .ref b), (2, .int y6)] → W p l e R s m args below meth c H locs 0 0 Q (F0 m 67 ls [.int z8]) := by
              intro z8 e0 H locs ls hG hl
              have h := hJ5 z8 e0
              refine lv_istore_n hx hb dX6_scriptHere_67 rfl hl (Nat.le_of_ble_eq_true rfl) (lv' := [(1, .int z8), (0, .ref b), (2, .int y6)]) rfl (fun ls hl => ?_)
              refine gb_iinc (k' := 1) hx hb dX6_scriptHere_68 hl (k := 2) rfl (by decide) (Nat.le_of_ble_eq_true rfl) h (fun x9 ls h hl => ?_)
              have hl : lv_has ls 3 [(2, .int x9), (1, .int z8), (0, .ref b)] := hl
              refine lv_goto hx hb dX6_scriptHere_71 (tgt := 40) (by decide) ?_
              exact ihL4 _ _ h _ _ _ hG (lv_sub hl [2, 1, 0] rfl)
            refine gb_icmp_gt hx hb dX6_scriptHere_59 (tgt := 66) (by decide) h (fun h => ?_) (fun h => ?_)
            · refine lv_iconst (v := 0) hx hb dX6_scriptHere_66 (by decide) ?_
              exact J5 _ (Option.some.inj h).symm _ _ _ hG (lv_sub hl [0, 2] rfl)
            · refine lv_iconst (v := 1) hx hb dX6_scriptHere_62 (by decide) ?_
              refine lv_goto hx hb dX6_scriptHere_63 (tgt := 67) (by decide) ?_
              exact J5 _ (Option.some.inj h).symm _ _ _ hG (lv_sub hl [0, 2] rfl)
    exact LL4 _ _ _ h _ _ _ hG (lv_sub hl [2, 1, 0] rfl)
  refine gb_if_ne hx hb dX6_scriptHere_4 (tgt := 33) (by decide) h (fun h => ?_) (fun h => ?_)
  · refine lv_iconst (v := 0) hx hb dX6_scriptHere_33 (by decide) ?_
    exact J1 _ (Option.some.inj h).symm _ _ _ hG hl
  · refine lv_aload_n hx hb dX6_scriptHere_7 rfl (lv_at hl 0 rfl) ?_
    refine tw_getI hF hG 27 (by decide) q1860 rfl dX6_scriptHere_8 ?_
    refine lv_iconst (v := 2) hx hb dX6_scriptHere_11 (by decide) ?_
    refine gb_icmp_ne hx hb dX6_scriptHere_12 (tgt := 33) (by decide) h (fun h => ?_) (fun h => ?_)
    · refine lv_iconst (v := 0) hx hb dX6_scriptHere_33 (by decide) ?_
      exact J1 _ (Option.some.inj h).symm _ _ _ hG hl
    · refine lv_aload_n hx hb dX6_scriptHere_15 rfl (lv_at hl 0 rfl) ?_
      refine tw_getI hF hG 25 (by decide) q1858 rfl dX6_scriptHere_16 ?_
      refine lv_aload_n hx hb dX6_scriptHere_19 rfl (lv_at hl 0 rfl) ?_
      refine tw_getI hF hG 26 (by decide) q1859 rfl dX6_scriptHere_20 ?_
      refine lv_isub hx hb dX6_scriptHere_23 ?_
      refine lv_bipush (v := 24) hx hb dX6_scriptHere_24 (by decide) ?_
      refine gb_icmp_gt hx hb dX6_scriptHere_26 (tgt := 33) (by decide) h (fun h => ?_) (fun h => ?_)
      · refine lv_iconst (v := 0) hx hb dX6_scriptHere_33 (by decide) ?_
        exact J1 _ (Option.some.inj h).symm _ _ _ hG hl
      · refine lv_iconst (v := 1) hx hb dX6_scriptHere_29 (by decide) ?_
        refine lv_goto hx hb dX6_scriptHere_30 (tgt := 34) (by decide) ?_
        exact J1 _ (Option.some.inj h).symm _ _ _ hG hl
theorem k_X6_scriptHere (hF : gX p m c cc nL s args RX6 D clX (tyA dA) K A R rm) (hL0 : L0 ≤ b) (hG : gJ D clX L0 A s.heap (twG dA b σ G0) n H locs) (hl : lv_has ls nL lv) (h1 : 2 + 1 ≤ rm.frames) (h2 : 8 + (3 + 11) + 42 ≤ rm.locals) {γ : Type} {f : TS → Option γ} {o : γ} (h : ob1 (t_X6_scriptHere σ) f = some o) (hc : cells ≤ rm.cells ∧ slots ≤ rm.slots) (hW : (rest.map fun v => v.category).sum ≤ 8) (hdg : decode cc pc = .ok (.invokevirtual 178, 3))
    (kk : ∀ (σ1 : TS) (H1 : Heap) (locs1 : List Loc), f σ1 = some o → gJ D clX L0 A s.heap (twG dA b σ1 G0) n H1 locs1 → W p l e R s m args below meth c H1 locs1 cells slots Q (F0 m (pc + 3) ls rest)) : W p l e R s m args below meth c H locs cells slots Q (F0 m pc ls (.ref b :: rest)) := by
  obtain ⟨r, hr, h⟩ := ob1_e h
  refine g_callV hF hG hl twG_obj (C := RX6) (T := TX6) (N := 35) rfl (w_X6_scriptHere hF.2.2.1 hL0 σ hr) (cwV 0 hF.1.2.2.2.2 (lw_V q2044 q2046 qs53 q108 q2047) rfl rfl rfl (by decide +kernel) (g_room hF h1 h2)) rfl rfl hW hdg ⟨by rw [hF.2.2.2.2]; exact hc.1, by rw [hF.2.2.2.2]; exact hc.2⟩ (fun v G1 n1 H1 locs1 hR hG1 => ?_)
  obtain ⟨rfl, rfl, rfl⟩ := hR
  exact kk r H1 locs1 h hG1
/-! clearsTold -/
def t_X6_clearsTold_L1 : Nat → Int32 → TS → Option (TS)
  | 0, _, _ => none
  | n + 1, y2, σ3 =>
    if 411 ≤ y2 then (
    some σ3)
    else (
    ob1 (T_wr σ3 12 y2 0) fun (σ4 : TS) =>
    nm (y2 + 1) fun (x5 : Int32) =>
    t_X6_clearsTold_L1 n x5 σ4)
def t_X6_clearsTold (σ : TS) : Option (TS) :=
ob1 (
t_X6_clearsTold_L1 4096 0 σ) fun (σ6 : TS) =>
ob1 (T_wr σ6 12 7 3) fun (σ7 : TS) =>
ob1 (T_wr σ7 12 8 4) fun (σ8 : TS) =>
nm (T_sf σ8 30 0) fun (σ9 : TS) =>
nm (T_sf σ9 31 0) fun (σ10 : TS) =>
nm (T_sf σ10 32 0) fun (σ11 : TS) =>
nm (T_sf σ11 33 0) fun (σ12 : TS) =>
nm (T_sf σ12 34 0) fun (σ13 : TS) =>
some σ13
set_option maxRecDepth 100000 in
theorem w_X6_clearsTold {l : Launch} {D : va_G} {dA : Nat → ClassId} {K : gKT} {L0 b sz : Nat} {G0 : GH} (hKo : gKo D clX (tyA dA) K) (hL0 : L0 ≤ b) (σ : TS)  {out : TS} (h : t_X6_clearsTold σ = some out) : gMet l yX6_clearsTold (ws_ yX6_clearsTold cX6_clearsTold 2 none) D clX L0 K [.ref b] (twG dA b σ G0) sz 0 0 0 0 (twRV dA b out G0 sz) := by
  refine gMet.of (own := RX6) hKo (by decide +kernel) (Nat.le_of_ble_eq_true rfl) rfl ?_
  intro p e R s m args below meth c A Q ls H hF hQ hin hG hl
  have hx := hF.1.1
  have hb := hF.1.2.1
  have hts := hF.1.2.2.2.2
  have hl : lv_has ls 2 [(0, .ref b)] := hl
  unfold t_X6_clearsTold at h
  refine lv_iconst (v := 0) hx hb dX6_clearsTold_0 (by decide) ?_
  refine lv_istore_n hx hb dX6_clearsTold_1 rfl hl (Nat.le_of_ble_eq_true rfl) (lv' := [(1, .int 0), (0, .ref b)]) rfl (fun ls hl => ?_)
  obtain ⟨X1, h, hJ1⟩ := ob1_u h
  have J1 : ∀ (σ6 : TS), X1 = σ6 → ∀ (H : Heap) (locs : List Loc) (ls : Array Slot), gJ D clX L0 A s.heap (twG dA b σ6 G0) sz H locs → lv_has ls 2 [(0, .ref b)] → W p l e R s m args below meth c H locs 0 0 Q (F0 m 22 ls []) := by
    intro σ6 e0 H locs ls hG hl
    have h := hJ1 σ6 e0
    refine lv_aload_n hx hb dX6_clearsTold_22 rfl (lv_at hl 0 rfl) ?_
    refine tw_getR hF hG 17 12 (by decide) q1850 rfl dX6_clearsTold_23 ?_
    refine lv_bipush (v := 7) hx hb dX6_clearsTold_26 (by decide) ?_
    refine lv_iconst (v := 3) hx hb dX6_clearsTold_28 (by decide) ?_
    refine tw_wr hF hL0 hG (j := 12) (by decide) h dX6_clearsTold_29 (fun σ7 H locs h hG => ?_)
    refine lv_aload_n hx hb dX6_clearsTold_30 rfl (lv_at hl 0 rfl) ?_
    refine tw_getR hF hG 17 12 (by decide) q1850 rfl dX6_clearsTold_31 ?_
    refine lv_bipush (v := 8) hx hb dX6_clearsTold_34 (by decide) ?_
    refine lv_iconst (v := 4) hx hb dX6_clearsTold_36 (by decide) ?_
    refine tw_wr hF hL0 hG (j := 12) (by decide) h dX6_clearsTold_37 (fun σ8 H locs h hG => ?_)
    refine lv_aload_n hx hb dX6_clearsTold_38 rfl (lv_at hl 0 rfl) ?_
    refine lv_iconst (v := 0) hx hb dX6_clearsTold_39 (by decide) ?_
    refine tw_putI hF hL0 hG 30 (by decide) q1863 rfl h dX6_clearsTold_40 (fun σ9 H locs h hG => ?_)
    refine lv_aload_n hx hb dX6_clearsTold_43 rfl (lv_at hl 0 rfl) ?_
    refine lv_iconst (v := 0) hx hb dX6_clearsTold_44 (by decide) ?_
    refine tw_putI hF hL0 hG 31 (by decide) q1864 rfl h dX6_clearsTold_45 (fun σ10 H locs h hG => ?_)
    refine lv_aload_n hx hb dX6_clearsTold_48 rfl (lv_at hl 0 rfl) ?_
    refine lv_iconst (v := 0) hx hb dX6_clearsTold_49 (by decide) ?_
    refine tw_putI hF hL0 hG 32 (by decide) q1865 rfl h dX6_clearsTold_50 (fun σ11 H locs h hG => ?_)
    refine lv_aload_n hx hb dX6_clearsTold_53 rfl (lv_at hl 0 rfl) ?_
    refine lv_iconst (v := 0) hx hb dX6_clearsTold_54 (by decide) ?_
    refine tw_putI hF hL0 hG 33 (by decide) q1866 rfl h dX6_clearsTold_55 (fun σ12 H locs h hG => ?_)
    refine lv_aload_n hx hb dX6_clearsTold_58 rfl (lv_at hl 0 rfl) ?_
    refine lv_iconst (v := 0) hx hb dX6_clearsTold_59 (by decide) ?_
    refine tw_putI hF hL0 hG 34 (by decide) q1867 rfl h dX6_clearsTold_60 (fun σ13 H locs h hG => ?_)
    have h := Option.some.inj h
    subst h
    exact g_vret hQ hG ⟨rfl, rfl, rfl⟩ (Nat.le_refl _) (Nat.le_refl _) dX6_clearsTold_63
  have LL1 : ∀ (n : Nat) (y2 : Int32) (σ3 : TS), t_X6_clearsTold_L1 n y2 σ3 = some X1 → ∀ (H : Heap) (locs : List Loc) (ls : Array Slot), gJ D clX L0 A s.heap (twG dA b σ3 G0) sz H locs → lv_has ls 2 [(0, .ref b), (1, .int y2)] → W p l e R s m args below meth c H locs 0 0 Q (F0 m 2 ls []) := by
    intro n
    induction n with
    | zero =>
      intro y2 σ3 h
      rw [t_X6_clearsTold_L1] at h
      cases h
    | succ n ihL1 =>
      intro y2 σ3 h H locs ls hG hl
      rw [t_X6_clearsTold_L1] at h
      refine lv_iload_n hx hb dX6_clearsTold_2 rfl (lv_at hl 1 rfl) ?_
      refine lv_sipush (v := 411) hx hb dX6_clearsTold_3 (by decide) ?_
      refine gb_icmp_ge hx hb dX6_clearsTold_6 (tgt := 22) (by decide) h (fun h => ?_) (fun h => ?_)
      · exact J1 _ (Option.some.inj h).symm _ _ _ hG (lv_sub hl [0] rfl)
      · refine lv_aload_n hx hb dX6_clearsTold_9 rfl (lv_at hl 0 rfl) ?_
        refine tw_getR hF hG 17 12 (by decide) q1850 rfl dX6_clearsTold_10 ?_
        refine lv_iload_n hx hb dX6_clearsTold_13 rfl (lv_at hl 1 rfl) ?_
        refine lv_iconst (v := 0) hx hb dX6_clearsTold_14 (by decide) ?_
        refine tw_wr hF hL0 hG (j := 12) (by decide) h dX6_clearsTold_15 (fun σ4 H locs h hG => ?_)
        refine gb_iinc (k' := 1) hx hb dX6_clearsTold_16 hl (k := 1) rfl (by decide) (Nat.le_of_ble_eq_true rfl) h (fun x5 ls h hl => ?_)
        have hl : lv_has ls 2 [(1, .int x5), (0, .ref b)] := hl
        refine lv_goto hx hb dX6_clearsTold_19 (tgt := 2) (by decide) ?_
        exact ihL1 _ _ h _ _ _ hG (lv_sub hl [1, 0] rfl)
  exact LL1 _ _ _ h _ _ _ hG (lv_sub hl [1, 0] rfl)
theorem k_X6_clearsTold (hF : gX p m c cc nL s args RX6 D clX (tyA dA) K A R rm) (hL0 : L0 ≤ b) (hG : gJ D clX L0 A s.heap (twG dA b σ G0) n H locs) (hl : lv_has ls nL lv) (h1 : 0 + 1 ≤ rm.frames) (h2 : 8 + (2 + 11) + 0 ≤ rm.locals) {γ : Type} {f : TS → Option γ} {o : γ} (h : ob1 (t_X6_clearsTold σ) f = some o) (hc : cells ≤ rm.cells ∧ slots ≤ rm.slots) (hW : (rest.map fun v => v.category).sum ≤ 8) (hdg : decode cc pc = .ok (.invokevirtual 66, 3))
    (kk : ∀ (σ1 : TS) (H1 : Heap) (locs1 : List Loc), f σ1 = some o → gJ D clX L0 A s.heap (twG dA b σ1 G0) n H1 locs1 → W p l e R s m args below meth c H1 locs1 cells slots Q (F0 m (pc + 3) ls rest)) : W p l e R s m args below meth c H locs cells slots Q (F0 m pc ls (.ref b :: rest)) := by
  obtain ⟨r, hr, h⟩ := ob1_e h
  refine g_callV hF hG hl twG_obj (C := RX6) (T := TX6) (N := 35) rfl (w_X6_clearsTold hF.2.2.1 hL0 σ hr) (cwV 0 hF.1.2.2.2.2 (lw_V q1822 q1824 qs36 q108 q1825) rfl rfl rfl (by decide +kernel) (g_room hF h1 h2)) rfl rfl hW hdg ⟨by rw [hF.2.2.2.2]; exact hc.1, by rw [hF.2.2.2.2]; exact hc.2⟩ (fun v G1 n1 H1 locs1 hR hG1 => ?_)
  obtain ⟨rfl, rfl, rfl⟩ := hR
  exact kk r H1 locs1 h hG1
/-! begins -/
def t_X6_begins_L5 : Nat → Int32 → TS → Option (TS)
  | 0, _, _ => none
  | n + 1, y6, σ7 =>
    if 48 ≤ y6 then (
    some σ7)
    else (
    ob1 (T_rd σ7 13 y6) fun (v8 : Int32) =>
    ob1 (T_wr σ7 1 y6 v8) fun (σ9 : TS) =>
    nm (y6 + 1) fun (x10 : Int32) =>
    t_X6_begins_L5 n x10 σ9)
def t_X6_begins_L12 : Nat → Int32 → TS → Option (TS)
  | 0, _, _ => none
  | n + 1, y13, σ14 =>
    if 12 ≤ y13 then (
    some σ14)
    else (
    ob1 (T_rd σ14 14 y13) fun (v15 : Int32) =>
    ob1 (T_wr σ14 2 y13 v15) fun (σ16 : TS) =>
    nm (y13 + 1) fun (x17 : Int32) =>
    t_X6_begins_L12 n x17 σ16)
def t_X6_begins_L19 : Nat → Int32 → TS → Option (TS)
  | 0, _, _ => none
  | n + 1, y20, σ21 =>
    if 24 ≤ y20 then (
    some σ21)
    else (
    ob1 (T_rd σ21 15 y20) fun (v22 : Int32) =>
    ob1 (T_wr σ21 3 y20 v22) fun (σ23 : TS) =>
    nm (y20 + 1) fun (x24 : Int32) =>
    t_X6_begins_L19 n x24 σ23)
def t_X6_begins_L26 : Nat → Int32 → TS → Option (TS)
  | 0, _, _ => none
  | n + 1, y27, σ28 =>
    if 8 ≤ y27 then (
    some σ28)
    else (
    ob1 (T_rd σ28 16 y27) fun (v29 : Int32) =>
    ob1 (T_wr σ28 4 y27 v29) fun (σ30 : TS) =>
    nm (y27 + 1) fun (x31 : Int32) =>
    t_X6_begins_L26 n x31 σ30)
def t_X6_begins_L33 : Nat → Int32 → TS → Option (TS)
  | 0, _, _ => none
  | n + 1, y34, σ35 =>
    if 96 ≤ y34 then (
    some σ35)
    else (
    ob1 (T_rd σ35 17 y34) fun (v36 : Int32) =>
    ob1 (T_wr σ35 5 y34 v36) fun (σ37 : TS) =>
    nm (y34 + 1) fun (x38 : Int32) =>
    t_X6_begins_L33 n x38 σ37)
def t_X6_begins_L40 : Nat → Int32 → TS → Option (TS)
  | 0, _, _ => none
  | n + 1, y41, σ42 =>
    if 411 ≤ y41 then (
    some σ42)
    else (
    ob1 (T_rd σ42 12 y41) fun (v43 : Int32) =>
    ob1 (T_wr σ42 6 y41 v43) fun (σ44 : TS) =>
    nm (y41 + 1) fun (x45 : Int32) =>
    t_X6_begins_L40 n x45 σ44)
def t_X6_begins_L47 : Nat → Int32 → TS → Option (TS)
  | 0, _, _ => none
  | n + 1, y48, σ49 =>
    if (σ49.1 1) ≤ y48 then (
    some σ49)
    else (
    ob1 (t_X6_at y48 2) fun (v50 : Int32) =>
    ob1 (t_X6_at y48 1) fun (v51 : Int32) =>
    ob1 (T_rd σ49 6 v51) fun (v52 : Int32) =>
    ob1 (T_wr σ49 6 v50 v52) fun (σ53 : TS) =>
    ob1 (t_X6_at y48 5) fun (v54 : Int32) =>
    ob1 (T_wr σ53 6 v54 (-1)) fun (σ55 : TS) =>
    ob1 (t_X6_at y48 6) fun (v56 : Int32) =>
    ob1 (T_wr σ55 6 v56 (-1)) fun (σ57 : TS) =>
    nm (y48 + 1) fun (x58 : Int32) =>
    t_X6_begins_L47 n x58 σ57)
def t_X6_begins (σ : TS) : Option (TS) :=
nm (T_sf σ 1 (σ.1 30)) fun (σ1 : TS) =>
nm (T_sf σ1 2 (σ1.1 31)) fun (σ2 : TS) =>
nm (T_sf σ2 3 (σ2.1 32)) fun (σ3 : TS) =>
nm (T_sf σ3 4 (σ3.1 33)) fun (σ4 : TS) =>
ob1 (
t_X6_begins_L5 4096 0 σ4) fun (σ11 : TS) =>
ob1 (
t_X6_begins_L12 4096 0 σ11) fun (σ18 : TS) =>
ob1 (
t_X6_begins_L19 4096 0 σ18) fun (σ25 : TS) =>
ob1 (
t_X6_begins_L26 4096 0 σ25) fun (σ32 : TS) =>
ob1 (
t_X6_begins_L33 4096 0 σ32) fun (σ39 : TS) =>
ob1 (
t_X6_begins_L40 4096 0 σ39) fun (σ46 : TS) =>
ob1 (
t_X6_begins_L47 4096 0 σ46) fun (σ59 : TS) =>
nm (T_sf σ59 15 0) fun (σ60 : TS) =>
ob1 (T_wz σ60 0 0) fun (σ61 : TS) =>
ob1 (T_wz σ61 1 0) fun (σ62 : TS) =>
some σ62
set_option maxRecDepth 100000 in
theorem w_X6_begins {l : Launch} {D : va_G} {dA : Nat → ClassId} {K : gKT} {L0 b sz : Nat} {G0 : GH} (hKo : gKo D clX (tyA dA) K) (hL0 : L0 ≤ b) (σ : TS)  {out : TS} (h : t_X6_begins σ = some out) : gMet l yX6_begins (ws_ yX6_begins cX6_begins 2 none) D clX L0 K [.ref b] (twG dA b σ G0) sz 1 21 0 0 (twRV dA b out G0 sz) := by
  refine gMet.of (own := RX6) hKo (by decide +kernel) (Nat.le_of_ble_eq_true rfl) rfl ?_
  intro p e R s m args below meth c A Q ls H hF hQ hin hG hl
  have hx := hF.1.1
  have hb := hF.1.2.1
  have hts := hF.1.2.2.2.2
  have hl : lv_has ls 2 [(0, .ref b)] := hl
  unfold t_X6_begins at h
  refine lv_aload_n hx hb dX6_begins_0 rfl (lv_at hl 0 rfl) ?_
  refine lv_aload_n hx hb dX6_begins_1 rfl (lv_at hl 0 rfl) ?_
  refine tw_getI hF hG 30 (by decide) q1863 rfl dX6_begins_2 ?_
  refine tw_putI hF hL0 hG 1 (by decide) q1834 rfl h dX6_begins_5 (fun σ1 H locs h hG => ?_)
  refine lv_aload_n hx hb dX6_begins_8 rfl (lv_at hl 0 rfl) ?_
  refine lv_aload_n hx hb dX6_begins_9 rfl (lv_at hl 0 rfl) ?_
  refine tw_getI hF hG 31 (by decide) q1864 rfl dX6_begins_10 ?_
  refine tw_putI hF hL0 hG 2 (by decide) q1835 rfl h dX6_begins_13 (fun σ2 H locs h hG => ?_)
  refine lv_aload_n hx hb dX6_begins_16 rfl (lv_at hl 0 rfl) ?_
  refine lv_aload_n hx hb dX6_begins_17 rfl (lv_at hl 0 rfl) ?_
  refine tw_getI hF hG 32 (by decide) q1865 rfl dX6_begins_18 ?_
  refine tw_putI hF hL0 hG 3 (by decide) q1836 rfl h dX6_begins_21 (fun σ3 H locs h hG => ?_)
  refine lv_aload_n hx hb dX6_begins_24 rfl (lv_at hl 0 rfl) ?_
  refine lv_aload_n hx hb dX6_begins_25 rfl (lv_at hl 0 rfl) ?_
  refine tw_getI hF hG 33 (by decide) q1866 rfl dX6_begins_26 ?_
  refine tw_putI hF hL0 hG 4 (by decide) q1837 rfl h dX6_begins_29 (fun σ4 H locs h hG => ?_)
  refine lv_iconst (v := 0) hx hb dX6_begins_32 (by decide) ?_
  refine lv_istore_n hx hb dX6_begins_33 rfl hl (Nat.le_of_ble_eq_true rfl) (lv' := [(1, .int 0), (0, .ref b)]) rfl (fun ls hl => ?_)
  obtain ⟨X1, h, hJ1⟩ := ob1_u h
  have J1 : ∀ (σ11 : TS), X1 = σ11 → ∀ (H : Heap) (locs : List Loc) (ls : Array Slot), gJ D clX L0 A s.heap (twG dA b σ11 G0) sz H locs → lv_has ls 2 [(0, .ref b)] → W p l e R s m args below meth c H locs 0 0 Q (F0 m 58 ls []) := by
    intro σ11 e0 H locs ls hG hl
    have h := hJ1 σ11 e0
    refine lv_iconst (v := 0) hx hb dX6_begins_58 (by decide) ?_
    refine lv_istore_n hx hb dX6_begins_59 rfl hl (Nat.le_of_ble_eq_true rfl) (lv' := [(1, .int 0), (0, .ref b)]) rfl (fun ls hl => ?_)
    obtain ⟨X2, h, hJ2⟩ := ob1_u h
    have J2 : ∀ (σ18 : TS), X2 = σ18 → ∀ (H : Heap) (locs : List Loc) (ls : Array Slot), gJ D clX L0 A s.heap (twG dA b σ18 G0) sz H locs → lv_has ls 2 [(0, .ref b)] → W p l e R s m args below meth c H locs 0 0 Q (F0 m 84 ls []) := by
      intro σ18 e0 H locs ls hG hl
      have h := hJ2 σ18 e0
      refine lv_iconst (v := 0) hx hb dX6_begins_84 (by decide) ?_
      refine lv_istore_n hx hb dX6_begins_85 rfl hl (Nat.le_of_ble_eq_true rfl) (lv' := [(1, .int 0), (0, .ref b)]) rfl (fun ls hl => ?_)
      obtain ⟨X3, h, hJ3⟩ := ob1_u h
      have J3 : ∀ (σ25 : TS), X3 = σ25 → ∀ (H : Heap) (locs : List Loc) (ls : Array Slot), gJ D clX L0 A s.heap (twG dA b σ25 G0) sz H locs → lv_has ls 2 [(0, .ref b)] → W p l e R s m args below meth c H locs 0 0 Q (F0 m 110 ls []) := by
        intro σ25 e0 H locs ls hG hl
        have h := hJ3 σ25 e0
        refine lv_iconst (v := 0) hx hb dX6_begins_110 (by decide) ?_
        refine lv_istore_n hx hb dX6_begins_111 rfl hl (Nat.le_of_ble_eq_true rfl) (lv' := [(1, .int 0), (0, .ref b)]) rfl (fun ls hl => ?_)
        obtain ⟨X4, h, hJ4⟩ := ob1_u h
        have J4 : ∀ (σ32 : TS), X4 = σ32 → ∀ (H : Heap) (locs : List Loc) (ls : Array Slot), gJ D clX L0 A s.heap (twG dA b σ32 G0) sz H locs → lv_has ls 2 [(0, .ref b)] → W p l e R s m args below meth c H locs 0 0 Q (F0 m 136 ls []) := by
          intro σ32 e0 H locs ls hG hl
          have h := hJ4 σ32 e0
          refine lv_iconst (v := 0) hx hb dX6_begins_136 (by decide) ?_
          refine lv_istore_n hx hb dX6_begins_137 rfl hl (Nat.le_of_ble_eq_true rfl) (lv' := [(1, .int 0), (0, .ref b)]) rfl (fun ls hl => ?_)
          obtain ⟨X5, h, hJ5⟩ := ob1_u h
          have J5 : ∀ (σ39 : TS), X5 = σ39 → ∀ (H : Heap) (locs : List Loc) (ls : Array Slot), gJ D clX L0 A s.heap (twG dA b σ39 G0) sz H locs → lv_has ls 2 [(0, .ref b)] → W p l e R s m args below meth c H locs 0 0 Q (F0 m 162 ls []) := by
            intro σ39 e0 H locs ls hG hl
            have h := hJ5 σ39 e0
            refine lv_iconst (v := 0) hx hb dX6_begins_162 (by decide) ?_
            refine lv_istore_n hx hb dX6_begins_163 rfl hl (Nat.le_of_ble_eq_true rfl) (lv' := [(1, .int 0), (0, .ref b)]) rfl (fun ls hl => ?_)
            obtain ⟨X6, h, hJ6⟩ := ob1_u h
            have J6 : ∀ (σ46 : TS), X6 = σ46 → ∀ (H : Heap) (locs : List Loc) (ls : Array Slot), gJ D clX L0 A s.heap (twG dA b σ46 G0) sz H locs → lv_has ls 2 [(0, .ref b)] → W p l e R s m args below meth c H locs 0 0 Q (F0 m 189 ls []) := by
              intro σ46 e0 H locs ls hG hl
              have h := hJ6 σ46 e0
              refine lv_iconst (v := 0) hx hb dX6_begins_189 (by decide) ?_
              refine lv_istore_n hx hb dX6_begins_190 rfl hl (Nat.le_of_ble_eq_true rfl) (lv' := [(1, .int 0), (0, .ref b)]) rfl (fun ls hl => ?_)
              obtain ⟨X7, h, hJ7⟩ := ob1_u h
              have J7 : ∀ (σ59 : TS), X7 = σ59 → ∀ (H : Heap) (locs : List Loc) (ls : Array Slot), gJ D clX L0 A s.heap (twG dA b σ59 G0) sz H locs → lv_has ls 2 [(0, .ref b)] → W p l e R s m args below meth c H locs 0 0 Q (F0 m 248 ls []) := by
                intro σ59 e0 H locs ls hG hl
                have h := hJ7 σ59 e0
                refine lv_aload_n hx hb dX6_begins_248 rfl (lv_at hl 0 rfl) ?_
                refine lv_iconst (v := 0) hx hb dX6_begins_249 (by decide) ?_
                refine tw_putI hF hL0 hG 15 (by decide) q1848 rfl h dX6_begins_250 (fun σ60 H locs h hG => ?_)
                refine lv_aload_n hx hb dX6_begins_253 rfl (lv_at hl 0 rfl) ?_
                refine tw_getR hF hG 14 10 (by decide) q1847 rfl dX6_begins_254 ?_
                refine lv_iconst (v := 0) hx hb dX6_begins_257 (by decide) ?_
                refine lv_iconst (v := 0) hx hb dX6_begins_258 (by decide) ?_
                refine tw_wz hF hL0 hG h dX6_begins_259 (fun σ61 H locs h hG => ?_)
                refine lv_aload_n hx hb dX6_begins_260 rfl (lv_at hl 0 rfl) ?_
                refine tw_getR hF hG 14 10 (by decide) q1847 rfl dX6_begins_261 ?_
                refine lv_iconst (v := 1) hx hb dX6_begins_264 (by decide) ?_
                refine lv_iconst (v := 0) hx hb dX6_begins_265 (by decide) ?_
                refine tw_wz hF hL0 hG h dX6_begins_266 (fun σ62 H locs h hG => ?_)
                have h := Option.some.inj h
                subst h
                exact g_vret hQ hG ⟨rfl, rfl, rfl⟩ (Nat.le_refl _) (Nat.le_refl _) dX6_begins_267
              have LL47 : ∀ (n : Nat) (y48 : Int32) (σ49 : TS), t_X6_begins_L47 n y48 σ49 = some X7 → ∀ (H : Heap) (locs : List Loc) (ls : Array Slot), gJ D clX L0 A s.heap (twG dA b σ49 G0) sz H locs → lv_has ls 2 [(0, .ref b), (1, .int y48)] → W p l e R s m args below meth c H locs 0 0 Q (F0 m 191 ls []) := by
                intro n
                induction n with
                | zero =>
                  intro y48 σ49 h
                  rw [t_X6_begins_L47] at h
                  cases h
                | succ n ihL47 =>
                  intro y48 σ49 h H locs ls hG hl
                  rw [t_X6_begins_L47] at h
                  refine lv_iload_n hx hb dX6_begins_191 rfl (lv_at hl 1 rfl) ?_
                  refine lv_aload_n hx hb dX6_begins_192 rfl (lv_at hl 0 rfl) ?_
                  refine tw_getI hF hG 1 (by decide) q1834 rfl dX6_begins_193 ?_
                  refine gb_icmp_ge hx hb dX6_begins_196 (tgt := 248) (by decide) h (fun h => ?_) (fun h => ?_)
                  · exact J7 _ (Option.some.inj h).symm _ _ _ hG (lv_sub hl [0] rfl)
                  · refine lv_aload_n hx hb dX6_begins_199 rfl (lv_at hl 0 rfl) ?_
                    refine tw_getR hF hG 10 6 (by decide) q1843 rfl dX6_begins_200 ?_
                    refine lv_iload_n hx hb dX6_begins_203 rfl (lv_at hl 1 rfl) ?_
                    refine lv_iconst (v := 2) hx hb dX6_begins_204 (by decide) ?_
                    refine k_X6_at hF hL0 hG hl (Nat.le_of_ble_eq_true rfl) (Nat.le_of_ble_eq_true rfl) h ⟨Nat.le_of_ble_eq_true rfl, Nat.le_of_ble_eq_true rfl⟩ (Nat.le_of_ble_eq_true rfl) dX6_begins_205 (fun v50 H locs h hG => ?_)
                    refine lv_aload_n hx hb dX6_begins_208 rfl (lv_at hl 0 rfl) ?_
                    refine tw_getR hF hG 10 6 (by decide) q1843 rfl dX6_begins_209 ?_
                    refine lv_iload_n hx hb dX6_begins_212 rfl (lv_at hl 1 rfl) ?_
                    refine lv_iconst (v := 1) hx hb dX6_begins_213 (by decide) ?_
                    refine k_X6_at hF hL0 hG hl (Nat.le_of_ble_eq_true rfl) (Nat.le_of_ble_eq_true rfl) h ⟨Nat.le_of_ble_eq_true rfl, Nat.le_of_ble_eq_true rfl⟩ (Nat.le_of_ble_eq_true rfl) dX6_begins_214 (fun v51 H locs h hG => ?_)
                    refine tw_rd hF hG (j := 6) (by decide) h dX6_begins_217 (fun v52 h => ?_)
                    refine tw_wr hF hL0 hG (j := 6) (by decide) h dX6_begins_218 (fun σ53 H locs h hG => ?_)
                    refine lv_aload_n hx hb dX6_begins_219 rfl (lv_at hl 0 rfl) ?_
                    refine tw_getR hF hG 10 6 (by decide) q1843 rfl dX6_begins_220 ?_
                    refine lv_iload_n hx hb dX6_begins_223 rfl (lv_at hl 1 rfl) ?_
                    refine lv_iconst (v := 5) hx hb dX6_begins_224 (by decide) ?_
                    refine k_X6_at hF hL0 hG hl (Nat.le_of_ble_eq_true rfl) (Nat.le_of_ble_eq_true rfl) h ⟨Nat.le_of_ble_eq_true rfl, Nat.le_of_ble_eq_true rfl⟩ (Nat.le_of_ble_eq_true rfl) dX6_begins_225 (fun v54 H locs h hG => ?_)
                    refine lv_iconst (v := (-1)) hx hb dX6_begins_228 (by decide) ?_
                    refine tw_wr hF hL0 hG (j := 6) (by decide) h dX6_begins_229 (fun σ55 H locs h hG => ?_)
                    refine lv_aload_n hx hb dX6_begins_230 rfl (lv_at hl 0 rfl) ?_
                    refine tw_getR hF hG 10 6 (by decide) q1843 rfl dX6_begins_231 ?_
                    refine lv_iload_n hx hb dX6_begins_234 rfl (lv_at hl 1 rfl) ?_
                    refine lv_bipush (v := 6) hx hb dX6_begins_235 (by decide) ?_
                    refine k_X6_at hF hL0 hG hl (Nat.le_of_ble_eq_true rfl) (Nat.le_of_ble_eq_true rfl) h ⟨Nat.le_of_ble_eq_true rfl, Nat.le_of_ble_eq_true rfl⟩ (Nat.le_of_ble_eq_true rfl) dX6_begins_237 (fun v56 H locs h hG => ?_)
                    refine lv_iconst (v := (-1)) hx hb dX6_begins_240 (by decide) ?_
                    refine tw_wr hF hL0 hG (j := 6) (by decide) h dX6_begins_241 (fun σ57 H locs h hG => ?_)
                    refine gb_iinc (k' := 1) hx hb dX6_begins_242 hl (k := 1) rfl (by decide) (Nat.le_of_ble_eq_true rfl) h (fun x58 ls h hl => ?_)
                    have hl : lv_has ls 2 [(1, .int x58), (0, .ref b)] := hl
                    refine lv_goto hx hb dX6_begins_245 (tgt := 191) (by decide) ?_
                    exact ihL47 _ _ h _ _ _ hG (lv_sub hl [1, 0] rfl)
              exact LL47 _ _ _ h _ _ _ hG (lv_sub hl [1, 0] rfl)
            have LL40 : ∀ (n : Nat) (y41 : Int32) (σ42 : TS), t_X6_begins_L40 n y41 σ42 = some X6 → ∀ (H : Heap) (locs : List Loc) (ls : Array Slot), gJ D clX L0 A s.heap (twG dA b σ42 G0) sz H locs → lv_has ls 2 [(0, .ref b), (1, .int y41)] → W p l e R s m args below meth c H locs 0 0 Q (F0 m 164 ls []) := by
              intro n
              induction n with
              | zero =>
                intro y41 σ42 h
                rw [t_X6_begins_L40] at h
                cases h
              | succ n ihL40 =>
                intro y41 σ42 h H locs ls hG hl
                rw [t_X6_begins_L40] at h
                refine lv_iload_n hx hb dX6_begins_164 rfl (lv_at hl 1 rfl) ?_
                refine lv_sipush (v := 411) hx hb dX6_begins_165 (by decide) ?_
                refine gb_icmp_ge hx hb dX6_begins_168 (tgt := 189) (by decide) h (fun h => ?_) (fun h => ?_)
                · exact J6 _ (Option.some.inj h).symm _ _ _ hG (lv_sub hl [0] rfl)
                · refine lv_aload_n hx hb dX6_begins_171 rfl (lv_at hl 0 rfl) ?_
                  refine tw_getR hF hG 10 6 (by decide) q1843 rfl dX6_begins_172 ?_
                  refine lv_iload_n hx hb dX6_begins_175 rfl (lv_at hl 1 rfl) ?_
                  refine lv_aload_n hx hb dX6_begins_176 rfl (lv_at hl 0 rfl) ?_
                  refine tw_getR hF hG 17 12 (by decide) q1850 rfl dX6_begins_177 ?_
                  refine lv_iload_n hx hb dX6_begins_180 rfl (lv_at hl 1 rfl) ?_
                  refine tw_rd hF hG (j := 12) (by decide) h dX6_begins_181 (fun v43 h => ?_)
                  refine tw_wr hF hL0 hG (j := 6) (by decide) h dX6_begins_182 (fun σ44 H locs h hG => ?_)
                  refine gb_iinc (k' := 1) hx hb dX6_begins_183 hl (k := 1) rfl (by decide) (Nat.le_of_ble_eq_true rfl) h (fun x45 ls h hl => ?_)
                  have hl : lv_has ls 2 [(1, .int x45), (0, .ref b)] := hl
                  refine lv_goto hx hb dX6_begins_186 (tgt := 164) (by decide) ?_
                  exact ihL40 _ _ h _ _ _ hG (lv_sub hl [1, 0] rfl)
            exact LL40 _ _ _ h _ _ _ hG (lv_sub hl [1, 0] rfl)
          have LL33 : ∀ (n : Nat) (y34 : Int32) (σ35 : TS), t_X6_begins_L33 n y34 σ35 = some X5 → ∀ (H : Heap) (locs : List Loc) (ls : Array Slot), gJ D clX L0 A s.heap (twG dA b σ35 G0) sz H locs → lv_has ls 2 [(0, .ref b), (1, .int y34)] → W p l e R s m args below meth c H locs 0 0 Q (F0 m 138 ls []) := by
            intro n
            induction n with
            | zero =>
              intro y34 σ35 h
              rw [t_X6_begins_L33] at h
              cases h
            | succ n ihL33 =>
              intro y34 σ35 h H locs ls hG hl
              rw [t_X6_begins_L33] at h
              refine lv_iload_n hx hb dX6_begins_138 rfl (lv_at hl 1 rfl) ?_
              refine lv_bipush (v := 96) hx hb dX6_begins_139 (by decide) ?_
              refine gb_icmp_ge hx hb dX6_begins_141 (tgt := 162) (by decide) h (fun h => ?_) (fun h => ?_)
              · exact J5 _ (Option.some.inj h).symm _ _ _ hG (lv_sub hl [0] rfl)
              · refine lv_aload_n hx hb dX6_begins_144 rfl (lv_at hl 0 rfl) ?_
                refine tw_getR hF hG 9 5 (by decide) q1842 rfl dX6_begins_145 ?_
                refine lv_iload_n hx hb dX6_begins_148 rfl (lv_at hl 1 rfl) ?_
                refine lv_aload_n hx hb dX6_begins_149 rfl (lv_at hl 0 rfl) ?_
                refine tw_getR hF hG 22 17 (by decide) q1855 rfl dX6_begins_150 ?_
                refine lv_iload_n hx hb dX6_begins_153 rfl (lv_at hl 1 rfl) ?_
                refine tw_rd hF hG (j := 17) (by decide) h dX6_begins_154 (fun v36 h => ?_)
                refine tw_wr hF hL0 hG (j := 5) (by decide) h dX6_begins_155 (fun σ37 H locs h hG => ?_)
                refine gb_iinc (k' := 1) hx hb dX6_begins_156 hl (k := 1) rfl (by decide) (Nat.le_of_ble_eq_true rfl) h (fun x38 ls h hl => ?_)
                have hl : lv_has ls 2 [(1, .int x38), (0, .ref b)] := hl
                refine lv_goto hx hb dX6_begins_159 (tgt := 138) (by decide) ?_
                exact ihL33 _ _ h _ _ _ hG (lv_sub hl [1, 0] rfl)
          exact LL33 _ _ _ h _ _ _ hG (lv_sub hl [1, 0] rfl)
        have LL26 : ∀ (n : Nat) (y27 : Int32) (σ28 : TS), t_X6_begins_L26 n y27 σ28 = some X4 → ∀ (H : Heap) (locs : List Loc) (ls : Array Slot), gJ D clX L0 A s.heap (twG dA b σ28 G0) sz H locs → lv_has ls 2 [(0, .ref b), (1, .int y27)] → W p l e R s m args below meth c H locs 0 0 Q (F0 m 112 ls []) := by
          intro n
          induction n with
          | zero =>
            intro y27 σ28 h
            rw [t_X6_begins_L26] at h
            cases h
          | succ n ihL26 =>
            intro y27 σ28 h H locs ls hG hl
            rw [t_X6_begins_L26] at h
            refine lv_iload_n hx hb dX6_begins_112 rfl (lv_at hl 1 rfl) ?_
            refine lv_bipush (v := 8) hx hb dX6_begins_113 (by decide) ?_
            refine gb_icmp_ge hx hb dX6_begins_115 (tgt := 136) (by decide) h (fun h => ?_) (fun h => ?_)
            · exact J4 _ (Option.some.inj h).symm _ _ _ hG (lv_sub hl [0] rfl)
            · refine lv_aload_n hx hb dX6_begins_118 rfl (lv_at hl 0 rfl) ?_
              refine tw_getR hF hG 8 4 (by decide) q1841 rfl dX6_begins_119 ?_
              refine lv_iload_n hx hb dX6_begins_122 rfl (lv_at hl 1 rfl) ?_
              refine lv_aload_n hx hb dX6_begins_123 rfl (lv_at hl 0 rfl) ?_
              refine tw_getR hF hG 21 16 (by decide) q1854 rfl dX6_begins_124 ?_
              refine lv_iload_n hx hb dX6_begins_127 rfl (lv_at hl 1 rfl) ?_
              refine tw_rd hF hG (j := 16) (by decide) h dX6_begins_128 (fun v29 h => ?_)
              refine tw_wr hF hL0 hG (j := 4) (by decide) h dX6_begins_129 (fun σ30 H locs h hG => ?_)
              refine gb_iinc (k' := 1) hx hb dX6_begins_130 hl (k := 1) rfl (by decide) (Nat.le_of_ble_eq_true rfl) h (fun x31 ls h hl => ?_)
              have hl : lv_has ls 2 [(1, .int x31), (0, .ref b)] := hl
              refine lv_goto hx hb dX6_begins_133 (tgt := 112) (by decide) ?_
              exact ihL26 _ _ h _ _ _ hG (lv_sub hl [1, 0] rfl)
        exact LL26 _ _ _ h _ _ _ hG (lv_sub hl [1, 0] rfl)
      have LL19 : ∀ (n : Nat) (y20 : Int32) (σ21 : TS), t_X6_begins_L19 n y20 σ21 = some X3 → ∀ (H : Heap) (locs : List Loc) (ls : Array Slot), gJ D clX L0 A s.heap (twG dA b σ21 G0) sz H locs → lv_has ls 2 [(0, .ref b), (1, .int y20)] → W p l e R s m args below meth c H locs 0 0 Q (F0 m 86 ls []) := by
        intro n
        induction n with
        | zero =>
          intro y20 σ21 h
          rw [t_X6_begins_L19] at h
          cases h
        | succ n ihL19 =>
          intro y20 σ21 h H locs ls hG hl
          rw [t_X6_begins_L19] at h
          refine lv_iload_n hx hb dX6_begins_86 rfl (lv_at hl 1 rfl) ?_
          refine lv_bipush (v := 24) hx hb dX6_begins_87 (by decide) ?_
          refine gb_icmp_ge hx hb dX6_begins_89 (tgt := 110) (by decide) h (fun h => ?_) (fun h => ?_)
          · exact J3 _ (Option.some.inj h).symm _ _ _ hG (lv_sub hl [0] rfl)
          · refine lv_aload_n hx hb dX6_begins_92 rfl (lv_at hl 0 rfl) ?_
            refine tw_getR hF hG 7 3 (by decide) q1840 rfl dX6_begins_93 ?_
            refine lv_iload_n hx hb dX6_begins_96 rfl (lv_at hl 1 rfl) ?_
            refine lv_aload_n hx hb dX6_begins_97 rfl (lv_at hl 0 rfl) ?_
            refine tw_getR hF hG 20 15 (by decide) q1853 rfl dX6_begins_98 ?_
            refine lv_iload_n hx hb dX6_begins_101 rfl (lv_at hl 1 rfl) ?_
            refine tw_rd hF hG (j := 15) (by decide) h dX6_begins_102 (fun v22 h => ?_)
            refine tw_wr hF hL0 hG (j := 3) (by decide) h dX6_begins_103 (fun σ23 H locs h hG => ?_)
            refine gb_iinc (k' := 1) hx hb dX6_begins_104 hl (k := 1) rfl (by decide) (Nat.le_of_ble_eq_true rfl) h (fun x24 ls h hl => ?_)
            have hl : lv_has ls 2 [(1, .int x24), (0, .ref b)] := hl
            refine lv_goto hx hb dX6_begins_107 (tgt := 86) (by decide) ?_
            exact ihL19 _ _ h _ _ _ hG (lv_sub hl [1, 0] rfl)
      exact LL19 _ _ _ h _ _ _ hG (lv_sub hl [1, 0] rfl)
    have LL12 : ∀ (n : Nat) (y13 : Int32) (σ14 : TS), t_X6_begins_L12 n y13 σ14 = some X2 → ∀ (H : Heap) (locs : List Loc) (ls : Array Slot), gJ D clX L0 A s.heap (twG dA b σ14 G0) sz H locs → lv_has ls 2 [(0, .ref b), (1, .int y13)] → W p l e R s m args below meth c H locs 0 0 Q (F0 m 60 ls []) := by
      intro n
      induction n with
      | zero =>
        intro y13 σ14 h
        rw [t_X6_begins_L12] at h
        cases h
      | succ n ihL12 =>
        intro y13 σ14 h H locs ls hG hl
        rw [t_X6_begins_L12] at h
        refine lv_iload_n hx hb dX6_begins_60 rfl (lv_at hl 1 rfl) ?_
        refine lv_bipush (v := 12) hx hb dX6_begins_61 (by decide) ?_
        refine gb_icmp_ge hx hb dX6_begins_63 (tgt := 84) (by decide) h (fun h => ?_) (fun h => ?_)
        · exact J2 _ (Option.some.inj h).symm _ _ _ hG (lv_sub hl [0] rfl)
        · refine lv_aload_n hx hb dX6_begins_66 rfl (lv_at hl 0 rfl) ?_
          refine tw_getR hF hG 6 2 (by decide) q1839 rfl dX6_begins_67 ?_
          refine lv_iload_n hx hb dX6_begins_70 rfl (lv_at hl 1 rfl) ?_
          refine lv_aload_n hx hb dX6_begins_71 rfl (lv_at hl 0 rfl) ?_
          refine tw_getR hF hG 19 14 (by decide) q1852 rfl dX6_begins_72 ?_
          refine lv_iload_n hx hb dX6_begins_75 rfl (lv_at hl 1 rfl) ?_
          refine tw_rd hF hG (j := 14) (by decide) h dX6_begins_76 (fun v15 h => ?_)
          refine tw_wr hF hL0 hG (j := 2) (by decide) h dX6_begins_77 (fun σ16 H locs h hG => ?_)
          refine gb_iinc (k' := 1) hx hb dX6_begins_78 hl (k := 1) rfl (by decide) (Nat.le_of_ble_eq_true rfl) h (fun x17 ls h hl => ?_)
          have hl : lv_has ls 2 [(1, .int x17), (0, .ref b)] := hl
          refine lv_goto hx hb dX6_begins_81 (tgt := 60) (by decide) ?_
          exact ihL12 _ _ h _ _ _ hG (lv_sub hl [1, 0] rfl)
    exact LL12 _ _ _ h _ _ _ hG (lv_sub hl [1, 0] rfl)
  have LL5 : ∀ (n : Nat) (y6 : Int32) (σ7 : TS), t_X6_begins_L5 n y6 σ7 = some X1 → ∀ (H : Heap) (locs : List Loc) (ls : Array Slot), gJ D clX L0 A s.heap (twG dA b σ7 G0) sz H locs → lv_has ls 2 [(0, .ref b), (1, .int y6)] → W p l e R s m args below meth c H locs 0 0 Q (F0 m 34 ls []) := by
    intro n
    induction n with
    | zero =>
      intro y6 σ7 h
      rw [t_X6_begins_L5] at h
      cases h
    | succ n ihL5 =>
      intro y6 σ7 h H locs ls hG hl
      rw [t_X6_begins_L5] at h
      refine lv_iload_n hx hb dX6_begins_34 rfl (lv_at hl 1 rfl) ?_
      refine lv_bipush (v := 48) hx hb dX6_begins_35 (by decide) ?_
      refine gb_icmp_ge hx hb dX6_begins_37 (tgt := 58) (by decide) h (fun h => ?_) (fun h => ?_)
      · exact J1 _ (Option.some.inj h).symm _ _ _ hG (lv_sub hl [0] rfl)
      · refine lv_aload_n hx hb dX6_begins_40 rfl (lv_at hl 0 rfl) ?_
        refine tw_getR hF hG 5 1 (by decide) q1838 rfl dX6_begins_41 ?_
        refine lv_iload_n hx hb dX6_begins_44 rfl (lv_at hl 1 rfl) ?_
        refine lv_aload_n hx hb dX6_begins_45 rfl (lv_at hl 0 rfl) ?_
        refine tw_getR hF hG 18 13 (by decide) q1851 rfl dX6_begins_46 ?_
        refine lv_iload_n hx hb dX6_begins_49 rfl (lv_at hl 1 rfl) ?_
        refine tw_rd hF hG (j := 13) (by decide) h dX6_begins_50 (fun v8 h => ?_)
        refine tw_wr hF hL0 hG (j := 1) (by decide) h dX6_begins_51 (fun σ9 H locs h hG => ?_)
        refine gb_iinc (k' := 1) hx hb dX6_begins_52 hl (k := 1) rfl (by decide) (Nat.le_of_ble_eq_true rfl) h (fun x10 ls h hl => ?_)
        have hl : lv_has ls 2 [(1, .int x10), (0, .ref b)] := hl
        refine lv_goto hx hb dX6_begins_55 (tgt := 34) (by decide) ?_
        exact ihL5 _ _ h _ _ _ hG (lv_sub hl [1, 0] rfl)
  exact LL5 _ _ _ h _ _ _ hG (lv_sub hl [1, 0] rfl)
theorem k_X6_begins (hF : gX p m c cc nL s args RX6 D clX (tyA dA) K A R rm) (hL0 : L0 ≤ b) (hG : gJ D clX L0 A s.heap (twG dA b σ G0) n H locs) (hl : lv_has ls nL lv) (h1 : 1 + 1 ≤ rm.frames) (h2 : 8 + (2 + 11) + 21 ≤ rm.locals) {γ : Type} {f : TS → Option γ} {o : γ} (h : ob1 (t_X6_begins σ) f = some o) (hc : cells ≤ rm.cells ∧ slots ≤ rm.slots) (hW : (rest.map fun v => v.category).sum ≤ 8) (hdg : decode cc pc = .ok (.invokevirtual 69, 3))
    (kk : ∀ (σ1 : TS) (H1 : Heap) (locs1 : List Loc), f σ1 = some o → gJ D clX L0 A s.heap (twG dA b σ1 G0) n H1 locs1 → W p l e R s m args below meth c H1 locs1 cells slots Q (F0 m (pc + 3) ls rest)) : W p l e R s m args below meth c H locs cells slots Q (F0 m pc ls (.ref b :: rest)) := by
  obtain ⟨r, hr, h⟩ := ob1_e h
  refine g_callV hF hG hl twG_obj (C := RX6) (T := TX6) (N := 35) rfl (w_X6_begins hF.2.2.1 hL0 σ hr) (cwV 0 hF.1.2.2.2.2 (lw_V q1826 q1828 qs37 q108 q1829) rfl rfl rfl (by decide +kernel) (g_room hF h1 h2)) rfl rfl hW hdg ⟨by rw [hF.2.2.2.2]; exact hc.1, by rw [hF.2.2.2.2]; exact hc.2⟩ (fun v G1 n1 H1 locs1 hR hG1 => ?_)
  obtain ⟨rfl, rfl, rfl⟩ := hR
  exact kk r H1 locs1 h hG1
/-! errorCode -/
def t_X6_errorCode (σ : TS) : Option (Int32 × TS) :=
nm (T_sf σ 0 0) fun (σ1 : TS) =>
some ((σ1.1 28), σ1)
set_option maxRecDepth 100000 in
theorem w_X6_errorCode {l : Launch} {D : va_G} {dA : Nat → ClassId} {K : gKT} {L0 b sz : Nat} {G0 : GH} (hKo : gKo D clX (tyA dA) K) (hL0 : L0 ≤ b) (σ : TS)  {out : Int32 × TS} (h : t_X6_errorCode σ = some out) : gMet l yX6_errorCode (ws_ yX6_errorCode cX6_errorCode 1 (some .int)) D clX L0 K [.ref b] (twG dA b σ G0) sz 0 0 0 0 (twRI dA b out.2 G0 sz out.1) := by
  refine gMet.of (own := RX6) hKo (by decide +kernel) (Nat.le_of_ble_eq_true rfl) rfl ?_
  intro p e R s m args below meth c A Q ls H hF hQ hin hG hl
  have hx := hF.1.1
  have hb := hF.1.2.1
  have hts := hF.1.2.2.2.2
  have hl : lv_has ls 1 [(0, .ref b)] := hl
  unfold t_X6_errorCode at h
  refine lv_aload_n hx hb dX6_errorCode_0 rfl (lv_at hl 0 rfl) ?_
  refine lv_iconst (v := 0) hx hb dX6_errorCode_1 (by decide) ?_
  refine tw_putI hF hL0 hG 0 (by decide) q1833 rfl h dX6_errorCode_2 (fun σ1 H locs h hG => ?_)
  refine lv_aload_n hx hb dX6_errorCode_5 rfl (lv_at hl 0 rfl) ?_
  refine tw_getI hF hG 28 (by decide) q1861 rfl dX6_errorCode_6 ?_
  have h := Option.some.inj h
  subst h
  exact g_iret hQ hG ⟨rfl, rfl, rfl⟩ (Nat.le_refl _) (Nat.le_refl _) dX6_errorCode_9
/-! errorPosition -/
def t_X6_errorPosition (σ : TS) : Option (Int32 × TS) :=
nm (T_sf σ 0 0) fun (σ1 : TS) =>
some ((σ1.1 29), σ1)
set_option maxRecDepth 100000 in
theorem w_X6_errorPosition {l : Launch} {D : va_G} {dA : Nat → ClassId} {K : gKT} {L0 b sz : Nat} {G0 : GH} (hKo : gKo D clX (tyA dA) K) (hL0 : L0 ≤ b) (σ : TS)  {out : Int32 × TS} (h : t_X6_errorPosition σ = some out) : gMet l yX6_errorPosition (ws_ yX6_errorPosition cX6_errorPosition 1 (some .int)) D clX L0 K [.ref b] (twG dA b σ G0) sz 0 0 0 0 (twRI dA b out.2 G0 sz out.1) := by
  refine gMet.of (own := RX6) hKo (by decide +kernel) (Nat.le_of_ble_eq_true rfl) rfl ?_
  intro p e R s m args below meth c A Q ls H hF hQ hin hG hl
  have hx := hF.1.1
  have hb := hF.1.2.1
  have hts := hF.1.2.2.2.2
  have hl : lv_has ls 1 [(0, .ref b)] := hl
  unfold t_X6_errorPosition at h
  refine lv_aload_n hx hb dX6_errorPosition_0 rfl (lv_at hl 0 rfl) ?_
  refine lv_iconst (v := 0) hx hb dX6_errorPosition_1 (by decide) ?_
  refine tw_putI hF hL0 hG 0 (by decide) q1833 rfl h dX6_errorPosition_2 (fun σ1 H locs h hG => ?_)
  refine lv_aload_n hx hb dX6_errorPosition_5 rfl (lv_at hl 0 rfl) ?_
  refine tw_getI hF hG 29 (by decide) q1862 rfl dX6_errorPosition_6 ?_
  have h := Option.some.inj h
  subst h
  exact g_iret hQ hG ⟨rfl, rfl, rfl⟩ (Nat.le_refl _) (Nat.le_refl _) dX6_errorPosition_9
/-! find -/
def t_X6_find_L3 (σ1 : TS) : Nat → Int32 → Int32 → Option (Int32)
  | 0, _, _ => none
  | n + 1, y4, y5 =>
    if (σ1.1 23) ≤ y5 then (
    some y4)
    else (
    if y4 = 0 then (
    some y4)
    else (
    ob1 (T_rd σ1 11 y5) fun (v6 : Int32) =>
    ob1 (
    if v6 = 0 then (
    some (0 : Int32))
    else (
    some (1 : Int32))) fun (z7 : Int32) =>
    nm (y5 + 1) fun (x8 : Int32) =>
    t_X6_find_L3 σ1 n z7 x8))
def t_X6_find (σ : TS) : Option (Int32 × TS) :=
nm (T_sf σ 0 0) fun (σ1 : TS) =>
ob1 (
if (σ1.1 23) ≤ 0 then (
some (0 : Int32))
else (
if 8 < (σ1.1 23) then (
some (0 : Int32))
else (
some (1 : Int32)))) fun (z2 : Int32) =>
ob1 (
t_X6_find_L3 σ1 4096 z2 0) fun (z9 : Int32) =>
ob1 (
if z9 = 0 then (
some ((-1) : Int32))
else (
ob1 (t_X6_whichOf σ1 5 (σ1.1 1) 11 0 (σ1.1 23)) fun (v10 : Int32) =>
some v10)) fun (z11 : Int32) =>
nm (T_sf σ1 23 0) fun (σ12 : TS) =>
ob1 (
if z11 = (-1) then (
some (0 : Int32))
else (
some (1 : Int32))) fun (z13 : Int32) =>
ob2 (t_X6_may σ12 z13 1) fun (v14 : Int32) (σ15 : TS) =>
if v14 = 0 then (
some (0, σ15))
else (
some (z11, σ15))
set_option maxRecDepth 100000 in
theorem w_X6_find {l : Launch} {D : va_G} {dA : Nat → ClassId} {K : gKT} {L0 b sz : Nat} {G0 : GH} (hKo : gKo D clX (tyA dA) K) (hL0 : L0 ≤ b) (σ : TS)  {out : Int32 × TS} (h : t_X6_find σ = some out) : gMet l yX6_find (ws_ yX6_find cX6_find 3 (some .int)) D clX L0 K [.ref b] (twG dA b σ G0) sz 1 27 0 0 (twRI dA b out.2 G0 sz out.1) := by
  refine gMet.of (own := RX6) hKo (by decide +kernel) (Nat.le_of_ble_eq_true rfl) rfl ?_
  intro p e R s m args below meth c A Q ls H hF hQ hin hG hl
  have hx := hF.1.1
  have hb := hF.1.2.1
  have hts := hF.1.2.2.2.2
  have hl : lv_has ls 3 [(0, .ref b)] := hl
  unfold t_X6_find at h
  refine lv_aload_n hx hb dX6_find_0 rfl (lv_at hl 0 rfl) ?_
  refine lv_iconst (v := 0) hx hb dX6_find_1 (by decide) ?_
  refine tw_putI hF hL0 hG 0 (by decide) q1833 rfl h dX6_find_2 (fun σ1 H locs h hG => ?_)
  refine lv_aload_n hx hb dX6_find_5 rfl (lv_at hl 0 rfl) ?_
  refine tw_getI hF hG 23 (by decide) q1856 rfl dX6_find_6 ?_
  obtain ⟨X1, h, hJ1⟩ := ob1_u h
  have J1 : ∀ (z2 : Int32), X1 = z2 → ∀ (H : Heap) (locs : List Loc) (ls : Array Slot), gJ D clX L0 A s.heap (twG dA b σ1 G0) sz H locs → lv_has ls 3 [(0, .ref b)] → W p l e R s m args below meth c H locs 0 0 Q (F0 m 26 ls [.int z2]) := by
    intro z2 e0 H locs ls hG hl
    have h := hJ1 z2 e0
    refine lv_istore_n hx hb dX6_find_26 rfl hl (Nat.le_of_ble_eq_true rfl) (lv' := [(1, .int z2), (0, .ref b)]) rfl (fun ls hl => ?_)
    refine lv_iconst (v := 0) hx hb dX6_find_27 (by decide) ?_
    refine lv_istore_n hx hb dX6_find_28 rfl hl (Nat.le_of_ble_eq_true rfl) (lv' := [(2, .int 0), (1, .int z2), (0, .ref b)]) rfl (fun ls hl => ?_)
    obtain ⟨X2, h, hJ2⟩ := ob1_u h
    have J2 : ∀ (z9 : Int32), X2 = z9 → ∀ (H : Heap) (locs : List Loc) (ls : Array Slot), gJ D clX L0 A s.heap (twG dA b σ1 G0) sz H locs → lv_has ls 3 [(0, .ref b), (1, .int z9)] → W p l e R s m args below meth c H locs 0 0 Q (F0 m 62 ls []) := by
      intro z9 e0 H locs ls hG hl
      have h := hJ2 z9 e0
      refine lv_iload_n hx hb dX6_find_62 rfl (lv_at hl 1 rfl) ?_
      obtain ⟨X3, h, hJ3⟩ := ob1_u h
      have J3 : ∀ (z11 : Int32), X3 = z11 → ∀ (H : Heap) (locs : List Loc) (ls : Array Slot), gJ D clX L0 A s.heap (twG dA b σ1 G0) sz H locs → lv_has ls 3 [(0, .ref b)] → W p l e R s m args below meth c H locs 0 0 Q (F0 m 90 ls [.int z11]) := by
        intro z11 e0 H locs ls hG hl
        have h := hJ3 z11 e0
        refine lv_istore_n hx hb dX6_find_90 rfl hl (Nat.le_of_ble_eq_true rfl) (lv' := [(2, .int z11), (0, .ref b)]) rfl (fun ls hl => ?_)
        refine lv_aload_n hx hb dX6_find_91 rfl (lv_at hl 1 rfl) ?_
        refine lv_iconst (v := 0) hx hb dX6_find_92 (by decide) ?_
        refine tw_putI hF hL0 hG 23 (by decide) q1856 rfl h dX6_find_93 (fun σ12 H locs h hG => ?_)
        refine lv_aload_n hx hb dX6_find_96 rfl (lv_at hl 1 rfl) ?_
        refine lv_iload_n hx hb dX6_find_97 rfl (lv_at hl 0 rfl) ?_
        refine lv_iconst (v := (-1)) hx hb dX6_find_98 (by decide) ?_
        obtain ⟨X4, h, hJ4⟩ := ob1_u h
        have J4 : ∀ (z13 : Int32), X4 = z13 → ∀ (H : Heap) (locs : List Loc) (ls : Array Slot), gJ D clX L0 A s.heap (twG dA b σ12 G0) sz H locs → lv_has ls 3 [(2, .int z11)] → W p l e R s m args below meth c H locs 0 0 Q (F0 m 107 ls [.int z13, .ref b]) := by
          intro z13 e0 H locs ls hG hl
          have h := hJ4 z13 e0
          refine lv_iconst (v := 1) hx hb dX6_find_107 (by decide) ?_
          refine k_X6_may hF hL0 hG hl (Nat.le_of_ble_eq_true rfl) (Nat.le_of_ble_eq_true rfl) h ⟨Nat.le_of_ble_eq_true rfl, Nat.le_of_ble_eq_true rfl⟩ (Nat.le_of_ble_eq_true rfl) dX6_find_108 (fun v14 σ15 H locs h hG => ?_)
          refine gb_if_eq hx hb dX6_find_111 (tgt := 118) (by decide) h (fun h => ?_) (fun h => ?_)
          · refine lv_iconst (v := 0) hx hb dX6_find_118 (by decide) ?_
            have h := Option.some.inj h
            subst h
            exact g_iret hQ hG ⟨rfl, rfl, rfl⟩ (Nat.le_refl _) (Nat.le_refl _) dX6_find_119
          · refine lv_iload_n hx hb dX6_find_114 rfl (lv_at hl 0 rfl) ?_
            refine lv_goto hx hb dX6_find_115 (tgt := 119) (by decide) ?_
            have h := Option.some.inj h
            subst h
            exact g_iret hQ hG ⟨rfl, rfl, rfl⟩ (Nat.le_refl _) (Nat.le_refl _) dX6_find_119
        refine gb_icmp_eq hx hb dX6_find_99 (tgt := 106) (by decide) h (fun h => ?_) (fun h => ?_)
        · refine lv_iconst (v := 0) hx hb dX6_find_106 (by decide) ?_
          exact J4 _ (Option.some.inj h).symm _ _ _ hG (lv_sub hl [0] rfl)
        · refine lv_iconst (v := 1) hx hb dX6_find_102 (by decide) ?_
          refine lv_goto hx hb dX6_find_103 (tgt := 107) (by decide) ?_
          exact J4 _ (Option.some.inj h).symm _ _ _ hG (lv_sub hl [0] rfl)
      refine gb_if_eq hx hb dX6_find_63 (tgt := 89) (by decide) h (fun h => ?_) (fun h => ?_)
      · refine lv_iconst (v := (-1)) hx hb dX6_find_89 (by decide) ?_
        exact J3 _ (Option.some.inj h).symm _ _ _ hG (lv_sub hl [0] rfl)
      · refine lv_aload_n hx hb dX6_find_66 rfl (lv_at hl 0 rfl) ?_
        refine tw_getR hF hG 9 5 (by decide) q1842 rfl dX6_find_67 ?_
        refine lv_aload_n hx hb dX6_find_70 rfl (lv_at hl 0 rfl) ?_
        refine tw_getI hF hG 1 (by decide) q1834 rfl dX6_find_71 ?_
        refine lv_aload_n hx hb dX6_find_74 rfl (lv_at hl 0 rfl) ?_
        refine tw_getR hF hG 16 11 (by decide) q1849 rfl dX6_find_75 ?_
        refine lv_iconst (v := 0) hx hb dX6_find_78 (by decide) ?_
        refine lv_aload_n hx hb dX6_find_79 rfl (lv_at hl 0 rfl) ?_
        refine tw_getI hF hG 23 (by decide) q1856 rfl dX6_find_80 ?_
        refine k_X6_whichOf hF hL0 hG hl (Nat.le_of_ble_eq_true rfl) (Nat.le_of_ble_eq_true rfl) (by decide) (by decide) h ⟨Nat.le_of_ble_eq_true rfl, Nat.le_of_ble_eq_true rfl⟩ (Nat.le_of_ble_eq_true rfl) dX6_find_83 (fun v10 H locs h hG => ?_)
        refine lv_goto hx hb dX6_find_86 (tgt := 90) (by decide) ?_
        exact J3 _ (Option.some.inj h).symm _ _ _ hG (lv_sub hl [0] rfl)
    have LL3 : ∀ (n : Nat) (y4 : Int32) (y5 : Int32), t_X6_find_L3 σ1 n y4 y5 = some X2 → ∀ (H : Heap) (locs : List Loc) (ls : Array Slot), gJ D clX L0 A s.heap (twG dA b σ1 G0) sz H locs → lv_has ls 3 [(0, .ref b), (1, .int y4), (2, .int y5)] → W p l e R s m args below meth c H locs 0 0 Q (F0 m 29 ls []) := by
      intro n
      induction n with
      | zero =>
        intro y4 y5 h
        rw [t_X6_find_L3] at h
        cases h
      | succ n ihL3 =>
        intro y4 y5 h H locs ls hG hl
        rw [t_X6_find_L3] at h
        refine lv_iload_n hx hb dX6_find_29 rfl (lv_at hl 2 rfl) ?_
        refine lv_aload_n hx hb dX6_find_30 rfl (lv_at hl 0 rfl) ?_
        refine tw_getI hF hG 23 (by decide) q1856 rfl dX6_find_31 ?_
        refine gb_icmp_ge hx hb dX6_find_34 (tgt := 62) (by decide) h (fun h => ?_) (fun h => ?_)
        · exact J2 _ (Option.some.inj h).symm _ _ _ hG (lv_sub hl [0, 1] rfl)
        · refine lv_iload_n hx hb dX6_find_37 rfl (lv_at hl 1 rfl) ?_
          refine gb_if_eq hx hb dX6_find_38 (tgt := 62) (by decide) h (fun h => ?_) (fun h => ?_)
          · exact J2 _ (Option.some.inj h).symm _ _ _ hG (lv_sub hl [0, 1] rfl)
          · refine lv_aload_n hx hb dX6_find_41 rfl (lv_at hl 0 rfl) ?_
            refine tw_getR hF hG 16 11 (by decide) q1849 rfl dX6_find_42 ?_
            refine lv_iload_n hx hb dX6_find_45 rfl (lv_at hl 2 rfl) ?_
            refine tw_rd hF hG (j := 11) (by decide) h dX6_find_46 (fun v6 h => ?_)
            obtain ⟨X5, h, hJ5⟩ := ob1_u h
            have J5 : ∀ (z7 : Int32), X5 = z7 → ∀ (H : Heap) (locs : List Loc) (ls : Array Slot), gJ D clX L0 A s.heap (twG dA b σ1 G0) sz H locs → lv_has ls 3 [(0, .ref b), (2, .int y5)] → W p l e R s m args below meth c H locs 0 0 Q (F0 m 55 ls [.int z7]) := by
              intro z7 e0 H locs ls hG hl
              have h := hJ5 z7 e0
              refine lv_istore_n hx hb dX6_find_55 rfl hl (Nat.le_of_ble_eq_true rfl) (lv' := [(1, .int z7), (0, .ref b), (2, .int y5)]) rfl (fun ls hl => ?_)
              refine gb_iinc (k' := 1) hx hb dX6_find_56 hl (k := 2) rfl (by decide) (Nat.le_of_ble_eq_true rfl) h (fun x8 ls h hl => ?_)
              have hl : lv_has ls 3 [(2, .int x8), (1, .int z7), (0, .ref b)] := hl
              refine lv_goto hx hb dX6_find_59 (tgt := 29) (by decide) ?_
              exact ihL3 _ _ h _ _ _ hG (lv_sub hl [2, 1, 0] rfl)
            refine gb_if_eq hx hb dX6_find_47 (tgt := 54) (by decide) h (fun h => ?_) (fun h => ?_)
            · refine lv_iconst (v := 0) hx hb dX6_find_54 (by decide) ?_
              exact J5 _ (Option.some.inj h).symm _ _ _ hG (lv_sub hl [0, 2] rfl)
            · refine lv_iconst (v := 1) hx hb dX6_find_50 (by decide) ?_
              refine lv_goto hx hb dX6_find_51 (tgt := 55) (by decide) ?_
              exact J5 _ (Option.some.inj h).symm _ _ _ hG (lv_sub hl [0, 2] rfl)
    exact LL3 _ _ _ h _ _ _ hG (lv_sub hl [2, 1, 0] rfl)
  refine gb_if_le hx hb dX6_find_9 (tgt := 25) (by decide) h (fun h => ?_) (fun h => ?_)
  · refine lv_iconst (v := 0) hx hb dX6_find_25 (by decide) ?_
    exact J1 _ (Option.some.inj h).symm _ _ _ hG hl
  · refine lv_aload_n hx hb dX6_find_12 rfl (lv_at hl 0 rfl) ?_
    refine tw_getI hF hG 23 (by decide) q1856 rfl dX6_find_13 ?_
    refine lv_bipush (v := 8) hx hb dX6_find_16 (by decide) ?_
    refine gb_icmp_gt hx hb dX6_find_18 (tgt := 25) (by decide) h (fun h => ?_) (fun h => ?_)
    · refine lv_iconst (v := 0) hx hb dX6_find_25 (by decide) ?_
      exact J1 _ (Option.some.inj h).symm _ _ _ hG hl
    · refine lv_iconst (v := 1) hx hb dX6_find_21 (by decide) ?_
      refine lv_goto hx hb dX6_find_22 (tgt := 26) (by decide) ?_
      exact J1 _ (Option.some.inj h).symm _ _ _ hG hl
end TT
