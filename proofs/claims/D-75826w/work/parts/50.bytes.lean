/-! byte arrays: copying, cloning -/
section BY
variable {p : Program} {l : Launch} {e : Env} {R : Room} {s : State} {m : MethodId} {args : Array Value} {below : List Frame} {meth : Method} {c : Code} {H : Heap} {locs : List Loc} {cells slots : Nat} {Q : State → Prop}
variable {cc : ByteArray} {pc : Nat} {ls : Array Slot} {rest : List Value} {A : Nat → Prop} {a L0 n nL : Nat} {G : GH} {g : gNum} {own : String} {rm : Room} {γ : Type} {o : γ} {lv : List (Nat × Value)}
theorem g_copyB (hF : gXK p m c cc nL s args own g A R rm) {G : GH} (hG : gJK g L0 A s.heap G n H locs) (hl : lv_has ls nL lv) {a a0 : Nat} {index : Nat} (hlink : (Cond.methodLink own index arraycopyName) ∈ lw_all) {n0 n1 : Nat} {f h0 : Nat → Int32} (ha0 : G a0 = some (.inl (g.2.1 1, n0, .inl f))) (ha1 : G a = some (.inl (g.2.1 1, n1, .inl h0))) (hL : L0 ≤ a) {sp dp k : Int32} {F : (Nat → Int32) → Option γ} (h : ob1 (cpF n0 n1 f h0 sp dp k) F = some o) (hfit : ∀ i, fits .byte (.int (f i)) = true) (hfr : 1 ≤ rm.frames) (hlo : (rest.map fun v => v.category).sum + (nativeFrameWords "java/lang/System" "arraycopy" 5 + 11) ≤ rm.locals) (hdg : decode cc pc = .ok (.invokestatic index, 3))
    (kk : ∀ (r : Nat → Int32) (H1 : Heap) (locs1 : List Loc), F r = some o → gJK g L0 A s.heap (gU G a (.inl (g.2.1 1, n1, .inl r))) n H1 locs1 → W p l e R s m args below meth c H1 locs1 cells slots Q (F0 m (pc + 3) ls rest)) : W p l e R s m args below meth c H locs cells slots Q (F0 m pc ls (.int k :: .int dp :: .ref a :: .int sp :: .ref a0 :: rest)) := by
  obtain ⟨r, hr, h⟩ := ob1_e h
  obtain ⟨h1, h2, h3, h4, h5, rfl⟩ := cpF_e hr
  have hframes : 1 ≤ R.frames := by rw [hF.2.2.2.2]; exact hfr
  have hlocals : (rest.map fun v => v.category).sum + (nativeFrameWords "java/lang/System" "arraycopy" 5 + 11) ≤ R.locals := by rw [hF.2.2.2.2]; exact hlo
  obtain ⟨⟨hx, hb, hml, hown, hts⟩, hK, -⟩ := hF
  have nn : ∀ z : Int32, ¬ z < 0 → z.toInt = (z.toNatClampNeg : Int) := by
    intro z hz
    have hz0 : (0 : Int) ≤ z.toInt := by
      have := Int32.not_lt.mp hz
      simpa using Int32.le_iff_toInt_le.mp this
    show z.toInt = ((z.toInt.toNat : Nat) : Int)
    omega
  intro T hT X
  have hc0 : H[a0]? = some (vp_cell (g.2.1 1) (n0, .inl f)) := hG.1 a0 _ ha0
  have hc1 : H[a]? = some (vp_cell (g.2.1 1) (n1, .inl h0)) := hG.1 a _ ha1
  obtain ⟨-, k0, hk0, cm0, hkk0⟩ := (hK.2 1 _ rfl).1 n0 (fun j => .int (f j))
  obtain ⟨-, k1, hk1, cm1, hkk1⟩ := (hK.2 1 _ rfl).1 n1 (fun j => .int (h0 j))
  obtain ⟨vm', X', step⟩ := X.arraycopy hx hown (hts _ hlink) (hts _ q278) (hts _ q277) (hts _ q99) (src := a0) (dst := a) (cs := vp_cell (g.2.1 1) (n0, .inl f)) (cd := vp_cell (g.2.1 1) (n1, .inl h0)) (srcPos := sp) (destPos := dp) (n := k) (by rw [hT]; exact hc0) (by rw [hT]; exact hc1)
    (fun _ h => by cases h) (fun _ h => by cases h) (fun h => by cases h) (fun h => by cases h) hk0 hk1 hkk0 hkk1 (by simp [refKind]) h1 h2 h3
    (by rw [nn sp h1, nn k h3]; show ¬ _ > ((arrV (g.2.1 1) n0 (fun j => .int (f j))).slots.size : Int); rw [arrV_size]; omega)
    (by rw [nn dp h2, nn k h3]; show ¬ _ > ((arrV (g.2.1 1) n1 (fun j => .int (h0 j))).slots.size : Int); rw [arrV_size]; omega)
    (fun vm₁ _ i hi => by
      have e : (vp_cell (g.2.1 1) (n0, .inl f)).slots.getD (sp.toNatClampNeg + i) .null = .int (f (sp.toNatClampNeg + i)) := by
        show (arrV (g.2.1 1) n0 (fun j => .int (f j))).slots.getD _ _ = _
        rw [Array.getD_eq_getD_getElem?, arrV_read _ _ (by omega)]
        rfl
      refine ⟨?_, ?_⟩
      · rw [e]
        exact hfit _
      · rw [e]
        exact trivial)
    (g := F0 m pc ls (.int k :: .int dp :: .ref a :: .int sp :: .ref a0 :: rest)) rfl (by rw [hml]; exact hl.1) (rest := rest) rfl (by rw [hb]; exact hdg) hframes (by show 2 * 0 + _ + _ ≤ _; omega)
  have e1 : copied (vp_cell (g.2.1 1) (n0, .inl f)) (vp_cell (g.2.1 1) (n1, .inl h0)) sp dp k = vp_cell (g.2.1 1) (n1, .inl (va_cpy f h0 sp.toNatClampNeg dp.toNatClampNeg k.toNatClampNeg)) := va_copied (fun z => .int z) (g.2.1 1) (g.2.1 1) f h0 h4
  rw [e1] at X' step
  have hlt : a < H.size := (Array.getElem?_eq_some_iff.mp hc1).1
  have hheap : ((T.setVm vm').setCell a (vp_cell (g.2.1 1) (n1, .inl (va_cpy f h0 sp.toNatClampNeg dp.toNatClampNeg k.toNatClampNeg)))).heap = H.setIfInBounds a (vp_cell (g.2.1 1) (n1, .inl (va_cpy f h0 sp.toNatClampNeg dp.toNatClampNeg k.toNatClampNeg))) := by rw [← hT]; rfl
  have oq : ∀ q : Nat, q ≠ a → (H.setIfInBounds a (vp_cell (g.2.1 1) (n1, .inl (va_cpy f h0 sp.toNatClampNeg dp.toNatClampNeg k.toNatClampNeg))))[q]? = H[q]? := fun q hq => by simp [Array.getElem?_setIfInBounds, Ne.symm hq]
  have hP := hG.put (k := 0) (e := .inl (g.2.1 1, n1, .inl (va_cpy f h0 sp.toNatClampNeg dp.toNatClampNeg k.toNatClampNeg))) (H1 := H.setIfInBounds a (vp_cell (g.2.1 1) (n1, .inl (va_cpy f h0 sp.toNatClampNeg dp.toNatClampNeg k.toNatClampNeg)))) ha1 hL (show (H.setIfInBounds a _)[a]? = some _ by simp [Array.getElem?_setIfInBounds, hlt]) (by simp) oq
  obtain ⟨t, a1, b1⟩ := kk _ (H.setIfInBounds a (vp_cell (g.2.1 1) (n1, .inl (va_cpy f h0 sp.toNatClampNeg dp.toNatClampNeg k.toNatClampNeg)))) _ h ⟨hP.1, hP.2.1, ⟨hP.2.2.1.1, hP.2.2.1.2.1, fun q hq => by
      rcases List.mem_append.mp hq with h | h
      · exact hG.2.2.1.2.2 q h
      · obtain ⟨z, -, hz⟩ := List.mem_map.mp h
        rw [← hz]
        exact hG.2.1 a _ ha1 hL⟩, hP.2.2.2⟩ _ hheap X'
  exact ⟨t, step t a1, b1⟩
theorem g_cloneB (hF : gXK p m c cc nL s args own g A R rm) (hG : gJK g L0 A s.heap G n H locs) (hl : lv_has ls nL lv) {index : Nat} (hlink : (Cond.methodLink own index ⟨"[B", "clone", "()Ljava/lang/Object;"⟩) ∈ lw_all) {N : Nat} {f : Nat → Int32} (ha : G a = some (.inl (g.2.1 1, N, .inl f))) (hfit : ∀ i, fits .byte (.int (f i)) = true) (hfr : 1 ≤ rm.frames) (hlo : (rest.map fun v => v.category).sum + 14 ≤ rm.locals) (hcells : cells + 1 ≤ R.cells) (hslots : slots + N ≤ R.slots) (hdg : decode cc pc = .ok (.invokevirtual index, 3))
    (kk : ∀ (H1 : Heap), gJK g L0 A s.heap (gU G n (.inl (g.2.1 1, N, .inl f))) (n + 1) H1 locs → W p l e R s m args below meth c H1 locs (cells + 1) (slots + N) Q (F0 m (pc + 3) ls (.ref n :: rest))) : W p l e R s m args below meth c H locs cells slots Q (F0 m pc ls (.ref a :: rest)) := by
  have hframes : 1 ≤ R.frames := by rw [hF.2.2.2.2]; exact hfr
  have hlocals : (rest.map fun v => v.category).sum + 14 ≤ R.locals := by rw [hF.2.2.2.2]; exact hlo
  have hcl := hF.nw (w := .castable "[B" "java/lang/Cloneable") q271 rfl
  obtain ⟨⟨hx, hb, hml, hown, hts⟩, hK, -⟩ := hF
  have hnm : s.vm.findClass "[B" = some (g.2.1 1) := (hK.2 1 _ rfl).2
  intro T hT X
  have hcellT : T.heap[a]? = some (vp_cell (g.2.1 1) (N, .inl f)) := by rw [hT]; exact hG.1 a _ ha
  obtain ⟨c0, t0', f1, f2, f3⟩ := Cond.castable_spec (va_Nw.use (A := args) rfl hcl)
  cases hnm.symm.trans f1
  have hsz : (vp_cell (g.2.1 1) (N, .inl f)).slots.size = N := arrV_size _ _ _
  obtain ⟨-, kA, hkA, comp, hkind⟩ := State.isArrayOf_alike X.warmed.alike ((hK.2 1 _ rfl).1 0 (fun _ => .null))
  obtain ⟨-, kS, hkS, compS, hkindS⟩ := (hK.2 1 _ rfl).1 0 (fun _ => .null)
  obtain ⟨vm', X', st⟩ := X.cloneArray hx hown (hts _ hlink) (hts _ q267) (hts _ q268) (hts _ q269) (hts _ q270) (a := a) (cell := vp_cell (g.2.1 1) (N, .inl f)) hcellT (fun _ h => by cases h) (fun h => by cases h) hnm f2 f3
    (fun i v hv => by
      have hk' : T.vm.classes[g.2.1 1]? = some kA := hkA
      have hv2 : fits .byte v = true := by
        by_cases hi : i < N
        · have := arrV_read (g.2.1 1) (fun j => .int (f j)) hi
          rw [show (vp_cell (g.2.1 1) (N, .inl f)) = arrV (g.2.1 1) N (fun j => .int (f j)) from rfl, this] at hv
          cases hv
          exact hfit i
        · rw [Array.getElem?_eq_none (by rw [hsz]; omega)] at hv
          cases hv
      rw [show (vp_cell (g.2.1 1) (N, .inl f)).cls = g.2.1 1 from rfl]
      simpa [State.fitsSlot, State.slotType?, hk', hkind] using hv2)
    (g := F0 m pc ls (.ref a :: rest)) rfl (by rw [hml]; exact hl.1) rfl (by rw [hb]; exact hdg) hframes (by show 2 * 0 + _ + 14 ≤ _; omega) hcells (by rw [hsz]; exact hslots) (hloader := Vm.clonesLoader_of_array hkS hkindS)
  rw [hsz] at X'
  generalize hH1 : H.push (vp_cell (g.2.1 1) (N, .inl f)) = H1
  have hz : H.size = n := hG.2.2.2.2
  have z1 : H1.size = n + 1 := by rw [← hH1, Array.size_push, hz]
  have e1 : H1[n]? = some (vp_cell (g.2.1 1) (N, .inl f)) := by rw [← hH1, ← hz, Array.getElem?_push_size]
  have o1 : ∀ q : Nat, q < n → H1[q]? = H[q]? := fun q hq => by rw [← hH1, Array.getElem?_push, if_neg (by omega)]
  obtain ⟨t, b1, b2⟩ := kk H1 (hG.new e1 z1 o1) ((T.setVm vm').pushCell (vp_cell (g.2.1 1) (N, .inl f))) (by rw [← hH1, ← hT]; rfl) X'
  refine ⟨t, st t ?_, b2⟩
  rw [← hz, ← hT] at b1
  exact b1
theorem g_castB (hF : gXK p m c cc nL s args own g A R rm) (hG : gJK g L0 A s.heap G n H locs) {index N : Nat} {f : Nat → Int32} (ha : G a = some (.inl (g.2.1 1, N, .inl f))) (hlink : (Cond.classLink own index "[B") ∈ lw_all) (hdg : decode cc pc = .ok (.checkcast index, 3))
    (kk : W p l e R s m args below meth c H locs cells slots Q (F0 m (pc + 3) ls (.ref a :: rest))) : W p l e R s m args below meth c H locs cells slots Q (F0 m pc ls (.ref a :: rest)) := by
  obtain ⟨⟨hx, hb, hml, hown, hts⟩, hK, -⟩ := hF
  have hnm : s.vm.findClass "[B" = some (g.2.1 1) := (hK.2 1 _ rfl).2
  exact va_castA (ws := [(a, .inl (g.2.1 1, N, .inl f))]) (D := g.1) (cl := clX) hx hb hown (hts _ hlink) (fun k x hk => by
    have : k = 0 := by
      have := (List.getElem?_eq_some_iff.mp hk).1
      simpa using this
    subst this
    cases hk
    exact hG.1 a _ ha) 0 rfl hnm hdg kk
end BY
