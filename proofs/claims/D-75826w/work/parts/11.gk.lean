/-! WHAT IS KNOWN ALL THROUGH: gK; and the rules over it: nest mates, interfaces, casts, arrays of references, statics, copies -/
/-- words of the tables that ride in gK -/
def gNk : Cond → Bool
  | .fieldLinkNest .. => true
  | .methodLinkNest .. => true
  | .castable .. => true
  | .declares .. => true
  | _ => false
theorem gNk_warm {w : Cond} (hk : gNk w = true) {s U : State} (hW : s.WarmedH U.vm) (h : va_Nw w s) : va_Nw w U := by
  cases w <;> first | (exact va_Nw.warmF hW h) | (exact va_Nw.warmM hW h) | (exact va_Nw.warmC hW h) | (exact va_Nw.warmD hW h) | (cases hk)
theorem gNk_same {w : Cond} (hk : gNk w = true) {s U : State} (hv : U.vm = s.vm) (h : va_Nw w s) : va_Nw w U := by
  cases w <;> first | (exact va_Nw.same rfl hv.symm h) | (cases hk)
def mList (n d : String) : MethodName := ⟨"java/util/List", n, d⟩
def mIter (n d : String) : MethodName := ⟨"java/util/Iterator", n, d⟩
/-- the interface calls: class of the receiver, the method named, the method run -/
def fwL : List (String × MethodName × MethodName) := [(RJ2, mList "size" "()I", yJ2_size), (RJ2, mList "get" "(I)Ljava/lang/Object;", yJ2_get), (RJ2, mList "add" "(Ljava/lang/Object;)Z", yJ2_add), (RJ2, mList "iterator" "()Ljava/util/Iterator;", yJ2_iterator), (RJ24, mIter "hasNext" "()Z", yJ24_hasNext), (RJ24, mIter "next" "()Ljava/lang/Object;", yJ24_next)]
/-- String constants: class, entry, text, number -/
def srL : List (String × Nat × String × Nat) := [(RX6, 193, "fuse", 0), (RX6, 195, "outlet", 1), (RX6, 200, "need", 2), (RX6, 169, "loss", 3), (RX6, 181, "retry", 4), (RX6, 183, "patience", 5), (RX6, 185, "strict", 6), (RX6, 187, "off", 7), (RX6, 189, "dark", 8), (RX7, 198, "fuse", 0), (RX7, 209, "outlet", 1), (RX7, 214, "need", 2), (RX7, 151, "loss", 3), (RX7, 153, "retry", 4), (RX7, 155, "patience", 5), (RX7, 157, "strict", 6), (RX7, 159, "off", 7), (RX7, 161, "dark", 8)]
/-- statics that nobody writes -/
def stL (dZ : Nat → Option Nat) : List (String × String × String × Value) := [("java/lang/String", "COMPACT_STRINGS", "Z", .int 1), ("java/util/ArrayList", "EMPTY_ELEMENTDATA", "[Ljava/lang/Object;", va_rf (dZ 0)), ("java/util/ArrayList", "DEFAULTCAPACITY_EMPTY_ELEMENTDATA", "[Ljava/lang/Object;", va_rf (dZ 1)), ("java/lang/Throwable", "UNASSIGNED_STACK", "[Ljava/lang/StackTraceElement;", va_rf (dZ 2)), ("java/lang/Throwable", "SUPPRESSED_SENTINEL", "Ljava/util/List;", va_rf (dZ 3)), ("jdk/internal/util/Preconditions", "SIOOBE_FORMATTER", "Ljava/util/function/BiFunction;", va_rf (dZ 4))]
/-- classes whose objects are not of another -/
def ncL : List (String × String) := [("java/lang/IllegalArgumentException", "java/lang/IndexOutOfBoundsException"), ("java/util/NoSuchElementException", "java/lang/IndexOutOfBoundsException"), ("java/util/NoSuchElementException", "java/lang/IllegalArgumentException"), ("java/lang/IllegalStateException", "java/lang/IllegalArgumentException")]
/-- numbers of the launch: classes, field slots, array classes, String constants, statics -/
abbrev gNum : Type := va_G × (Nat → ClassId) × (Nat → Nat) × (Nat → Option Nat)
/-- the mirror of Object[] -/
def miN (g : gNum) : Nat := (g.2.2.2 5).getD 0
/-- the String constants' bytes and hashes -/
def roT : List (List Int32 × Int32) := [([102, 117, 115, 101], 3154785), ([111, 117, 116, 108, 101, 116], -1005516787), ([110, 101, 101, 100], 3377302), ([108, 111, 115, 115], 3327779), ([114, 101, 116, 114, 121], 108405416), ([112, 97, 116, 105, 101, 110, 99, 101], 1235842033), ([115, 116, 114, 105, 99, 116], -891986231), ([111, 102, 102], 109935), ([100, 97, 114, 107], 3075958)]
def roB (k : Nat) : List Int32 := (roT.getD k ([], 0)).1
def roH (k : Nat) : Int32 := (roT.getD k ([], 0)).2
def roV (g : gNum) (k : Nat) : Nat := (g.2.2.2 (10 + k)).getD 0
/-- their cells, which nobody writes -/
def roL (g : gNum) : List (Nat × va_E) := (List.range 9).flatMap fun k => [(g.2.2.1 k, .inr (16, [.ref (roV g k), .int 0, .int (roH k), .int 0])), (roV g k, .inl (g.2.1 1, (roB k).length, .inl (fun i => (roB k).getD i 0)))]
def gK (g : gNum) : gKT := fun A U H => va_K g.1 clX (tyA g.2.1) U ∧ (∀ w ∈ lw_tbl, gNk w = true → va_Nw w U) ∧ (∀ q ∈ fwL, va_Fw q.1 q.2.1 q.2.2 U) ∧ (((va_AO "java/lang/Object" U ∧ va_AO "BlackoutStart$State" U) ∧ ∀ q ∈ ncL, va_Nc q.1 q.2 U) ∧ va_Mi "[Ljava/lang/Object;" (miN g) U ∧ va_Dc U) ∧ (∀ q ∈ srL, vk_R q.1 q.2.1 q.2.2.1 (g.2.2.1 q.2.2.2) U) ∧ (∀ q ∈ stL g.2.2.2, va_Z q.1 q.2.1 q.2.2.1 q.2.2.2 A U H ∧ vx_L q.1 q.2.1 q.2.2.1 A U H) ∧ ∀ q ∈ roL g, va_at g.1 clX q H ∧ ¬ A q.1
theorem fwL_ok : ∀ q ∈ fwL, q.2.1.cls ≠ "java/lang/invoke/MethodHandle" ∧ q.2.1.cls ≠ "java/lang/invoke/VarHandle" := by decide +kernel
theorem gK_ok (g : gNum) : gKo g.1 clX (tyA g.2.1) (gK g) := by
  refine ⟨⟨fun A s U H hW h => ?_, fun A s U H hv h => ?_, fun A s H H1 hq h => ?_, fun A B s H hAB h => ?_⟩, fun A s H h => h.1⟩
  · obtain ⟨h1, h2, h3, h4, h5, h6⟩ := h
    exact ⟨va_K.moved hW.alike h1, fun w hw hk => gNk_warm hk hW (h2 w hw hk), fun q hq => va_Fw.moved (fwL_ok q hq) hW.alike (h3 q hq), ⟨⟨⟨va_AO.moved hW.alike h4.1.1.1, va_AO.moved hW.alike h4.1.1.2⟩, fun q hq => va_Nc.moved hW.alike (h4.1.2 q hq)⟩, va_Mi.moved hW.alike h4.2.1, va_Dc.moved hW.alike h4.2.2⟩, fun q hq => vk_R.warm hW (h5 q hq), ⟨fun q hq => ⟨(h6.1 q hq).1.moved hW.alike, (h6.1 q hq).2.moved hW.alike⟩, h6.2⟩⟩
  · obtain ⟨h1, h2, h3, h4, h5, h6⟩ := h
    have ha : s.vm.Alike U.vm := by rw [hv]; exact Vm.Alike.refl _
    exact ⟨va_K.moved ha h1, fun w hw hk => gNk_same hk hv (h2 w hw hk), fun q hq => va_Fw.moved (fwL_ok q hq) ha (h3 q hq), ⟨⟨⟨va_AO.moved ha h4.1.1.1, va_AO.moved ha h4.1.1.2⟩, fun q hq => va_Nc.moved ha (h4.1.2 q hq)⟩, va_Mi.moved ha h4.2.1, va_Dc.moved ha h4.2.2⟩, fun q hq => vk_R.same hv (h5 q hq), ⟨fun q hq => ⟨(h6.1 q hq).1.moved ha, (h6.1 q hq).2.moved ha⟩, h6.2⟩⟩
  · obtain ⟨h1, h2, h3, h4, h5, h6⟩ := h
    exact ⟨h1, h2, h3, h4, h5, ⟨fun q hq' => ⟨(h6.1 q hq').1.kept hq, (h6.1 q hq').2.kept hq⟩, fun q hq' => ⟨(h6.2 q hq').1.kept (hq _ (h6.2 q hq').1.lt (h6.2 q hq').2), (h6.2 q hq').2⟩⟩⟩
  · obtain ⟨h1, h2, h3, h4, h5, h6⟩ := h
    exact ⟨h1, h2, h3, h4, h5, ⟨fun q hq => ⟨(h6.1 q hq).1.narrow hAB, (h6.1 q hq).2.narrow hAB⟩, fun q hq => ⟨(h6.2 q hq).1, fun z => (h6.2 q hq).2 (hAB _ z)⟩⟩⟩
theorem gU_id {G : GH} {a : Nat} {e : va_E} (h : G a = some e) : gU G a e = G := by
  funext q
  by_cases hq : q = a
  · subst hq; rw [gU_s, h]
  · rw [gU_n hq]
theorem gU_ov {G : GH} {a : Nat} {e e2 : va_E} : gU (gU G a e) a e2 = gU G a e2 := by
  funext q
  by_cases hq : q = a
  · subst hq; rw [gU_s, gU_s]
  · rw [gU_n hq, gU_n hq, gU_n hq]
theorem gU_sw {G : GH} {a b : Nat} {ea eb : va_E} (h : a ≠ b) : gU (gU G b eb) a ea = gU (gU G a ea) b eb := by
  funext q
  by_cases hq : q = a
  · subst hq; rw [gU_s, gU_n h, gU_s]
  · by_cases hb : q = b
    · subst hb; rw [gU_n hq, gU_s, gU_s]
    · rw [gU_n hq, gU_n hb, gU_n hb, gU_n hq]
/-- an Option Nat as a branch -/
def oq {γ : Type} (q : Option Nat) (P : Option γ) (f : Nat → Option γ) : Option γ := match q with | none => P | some a => f a
theorem gb_oq {γ : Type} {q : Option Nat} {P : Option γ} {f : Nat → Option γ} {o : γ} (h : oq q P f = some o) : (q = none ∧ P = some o) ∨ ∃ a, q = some a ∧ f a = some o := by
  cases q with
  | none => exact Or.inl ⟨rfl, h⟩
  | some a => exact Or.inr ⟨a, rfl, h⟩
/-- reading an array that is a function -/
def rdF {α : Type} (n : Nat) (f : Nat → α) (i : Int32) : Option α := if i < 0 ∨ n ≤ i.toNatClampNeg then none else some (f i.toNatClampNeg)
theorem rdF_e {α : Type} {n : Nat} {f : Nat → α} {i : Int32} {v : α} (h : rdF n f i = some v) : vp_in i n ∧ f i.toNatClampNeg = v := by
  unfold rdF at h
  split at h
  next => cases h
  next hn => exact ⟨hn, Option.some.inj h⟩
def wrF {α : Type} (n : Nat) (f : Nat → α) (i : Int32) (v : α) : Option (Nat → α) := if i < 0 ∨ n ≤ i.toNatClampNeg then none else some (fun j => if j = i.toNatClampNeg then v else f j)
theorem wrF_e {α : Type} {n : Nat} {f g : Nat → α} {i : Int32} {v : α} (h : wrF n f i v = some g) : vp_in i n ∧ g = fun j => if j = i.toNatClampNeg then v else f j := by
  unfold wrF at h
  split at h
  next => cases h
  next hn => exact ⟨hn, (Option.some.inj h).symm⟩
section GK
variable {p : Program} {l : Launch} {e : Env} {R : Room} {s : State} {m : MethodId} {args : Array Value} {below : List Frame} {meth : Method} {c : Code} {H : Heap} {locs : List Loc} {cells slots : Nat} {Q : State → Prop}
variable {cc : ByteArray} {pc : Nat} {ls : Array Slot} {rest : List Value} {A : Nat → Prop} {a : Nat} {L0 n nL : Nat} {G : GH} {g : gNum} {own : String} {rm : Room}
/-- fixed facts over gK -/
abbrev gXK (p : Program) (m : MethodId) (c : Code) (cc : ByteArray) (nL : Nat) (s : State) (args : Array Value) (own : String) (g : gNum) (A : Nat → Prop) (R rm : Room) : Prop := gX p m c cc nL s args own g.1 clX (tyA g.2.1) (gK g) A R rm
abbrev gJK (g : gNum) (L0 : Nat) (A : Nat → Prop) (H0 : Heap) (G : GH) (n : Nat) (H : Heap) (locs : List Loc) : Prop := gJ g.1 clX L0 A H0 G n H locs
theorem gJ.nen {D : va_G} {cl : List vw_C} {H0 : Heap} (hG : gJ D cl L0 A H0 G n H locs) {x : va_E} (h : G a = some x) : a ≠ n := fun q => absurd (hG.lt h) (by rw [q]; exact Nat.lt_irrefl _)
theorem gX.nw (hF : gXK p m c cc nL s args own g A R rm) {w : Cond} (hw : w ∈ lw_tbl) (hk : gNk w = true) : va_Nw w s := hF.2.2.2.1.2.1 w hw hk
theorem g_getN (hF : gXK p m c cc nL s args own g A R rm) (hG : gJK g L0 A s.heap G n H locs) {ref C host : String} {T : u_T} {N ci index : Nat} {fs : List Value} (he : G a = some (.inr (ci, fs))) (hc : clX[ci]? = some (C, T, N)) (hin : ∀ w ∈ u_ws C T N, w ∈ lw_all) (k : Nat) (hk : k < N) (hlink : (Cond.fieldLinkNest own index ref (T k).2.1 (T k).2.2.1 host) ∈ lw_tbl) (hsame : ∀ x, s.fieldFound? (T k).1 (T k).2.1 (T k).2.2.1 = some x → s.fieldFound? ref (T k).2.1 (T k).2.2.1 = some x) {v : Value} (hv : fs[k]? = some v) (hdg : decode cc pc = .ok (.getfield index, 3))
    (kk : W p l e R s m args below meth c H locs cells slots Q (F0 m (pc + 3) ls (v :: rest))) : W p l e R s m args below meth c H locs cells slots Q (F0 m pc ls (.ref a :: rest)) := by
  have hn := hF.nw hlink rfl
  obtain ⟨⟨hx, hb, -, hown, hts⟩, hK, -⟩ := hF
  exact va_getN hx hb hts hin hown hK (gP1 (hG.1 a _ he)) 0 rfl hc k hk (va_Nw.use rfl hn) hsame hv hdg kk
theorem g_putN (hF : gXK p m c cc nL s args own g A R rm) (hG : gJK g L0 A s.heap G n H locs) {ref C host : String} {T : u_T} {N ci index : Nat} {fs : List Value} (he : G a = some (.inr (ci, fs))) (hL : L0 ≤ a) (hc : clX[ci]? = some (C, T, N)) (hin : ∀ w ∈ u_ws C T N, w ∈ lw_all) (ty0 : Nat → FieldType) (hty : ∀ k, k < N → parseFieldDescriptor (T k).2.2.1 = some (ty0 k)) (hnm : ∀ a, a < N → ∀ b, b < N → a ≠ b → (T a).2.1 ≠ (T b).2.1) (k : Nat) (hk : k < N) (hlink : (Cond.fieldLinkNest own index ref (T k).2.1 (T k).2.2.1 host) ∈ lw_tbl) (hsame : ∀ x, s.fieldFound? (T k).1 (T k).2.1 (T k).2.2.1 = some x → s.fieldFound? ref (T k).2.1 (T k).2.2.1 = some x) (hfin : (T k).2.2.2 = false) {v : Value} (hn : narrow (ty0 k) v = v) (hfit : fits (ty0 k) v = true) (hl : k < fs.length) (hdg : decode cc pc = .ok (.putfield index, 3))
    (kk : ∀ (H1 : Heap) (locs1 : List Loc), gJK g L0 A s.heap (gU G a (.inr (ci, fs.set k v))) n H1 locs1 → W p l e R s m args below meth c H1 locs1 cells slots Q (F0 m (pc + 3) ls rest)) : W p l e R s m args below meth c H locs cells slots Q (F0 m pc ls (v :: .ref a :: rest)) := by
  have hnw := hF.nw hlink rfl
  obtain ⟨⟨hx, hb, -, hown, hts⟩, hK, -⟩ := hF
  have hap := va_apart (own := own) hts hin ty0 hty hnm hK hc
  have hat := hG.1 a _ he
  obtain ⟨r, h1, cell, q1, q2, q3, q4⟩ := hat
  have hr : r = (C, T, N) := Option.some.inj (h1.symm.trans hc)
  subst hr
  obtain ⟨hS, hfc, kC, hkC, hkind⟩ := hK.1 ci _ hc
  obtain ⟨cf, kf, fi, f, hi, hsl⟩ := hS k hk
  have hlay := hts _ (hin _ (u_in_lay hk))
  unfold u_lay at hlay
  rw [if_neg (by rw [hfin]; decide)] at hlay
  have hst := (u_facts hfc hkC (u_lays hts hin hk) hi).1
  have h6 := u_store hfc hkC hkind hlay hi (hty k hk) hn hfit
  refine va_WputK hx hb (f := f) hown (va_Nw.use rfl hnw) (hsame _ hi) hst (by rw [q2]; exact h6) q1 q3 (by rw [hsl]; exact k2_hasslot (q4 k hk)) rfl rfl hdg fun H' e1 e2 e3 => ?_
  rw [hsl] at e1 ⊢
  exact kk H' _ (hG.put he hL ⟨_, hc, t_OB.to (V := updV (vp_V fs) k v) ⟨_, e1, q2, q3, t_set q4 hap hk v⟩ (fun j _ => vp_updV_set hl v j)⟩ e2 e3)
theorem g_aald (hF : gXK p m c cc nL s args own g A R rm) (hG : gJK g L0 A s.heap G n H locs) {cA : ClassId} {N : Nat} {f : Nat → Option Nat} {C : String} (he : G a = some (.inl (cA, N, .inr (.inr (.inr (.inr f)))))) (t0 : Nat) (ht : (tyA g.2.1)[t0]? = some (cA, .object C)) {i : Int32} (hin : vp_in i N) (hdg : decode cc pc = .ok (.aaload, 1))
    (kk : W p l e R s m args below meth c H locs cells slots Q (F0 m (pc + 1) ls (va_rf (f i.toNatClampNeg) :: rest))) : W p l e R s m args below meth c H locs cells slots Q (F0 m pc ls (.int i :: .ref a :: rest)) :=
  va_aldq hF.1.1 hF.1.2.1 hF.2.1 (gP1 (hG.1 a _ he)) 0 t0 rfl ht hin hdg kk
theorem g_castY (hF : gXK p m c cc nL s args own g A R rm) (hG : gJK g L0 A s.heap G n H locs) {nm : String} {index ci : Nat} {q : vw_C} {fs : List Value} (he : G a = some (.inr (ci, fs))) (hc : clX[ci]? = some q) (hlink : (Cond.classLink own index nm) ∈ lw_all) (hw : (Cond.castable q.1 nm) ∈ lw_tbl) (hdg : decode cc pc = .ok (.checkcast index, 3))
    (k : W p l e R s m args below meth c H locs cells slots Q (F0 m (pc + 3) ls (.ref a :: rest))) : W p l e R s m args below meth c H locs cells slots Q (F0 m pc ls (.ref a :: rest)) :=
  va_castY hF.1.1 hF.1.2.1 hF.1.2.2.2.1 (hF.1.2.2.2.2 _ hlink) (hF.nw hw rfl) (g_recv hF hG he hc) hdg k
theorem g_castS (hF : gXK p m c cc nL s args own g A R rm) (hG : gJK g L0 A s.heap G n H locs) {index ci : Nat} {q : vw_C} {fs : List Value} (he : G a = some (.inr (ci, fs))) (hc : clX[ci]? = some q) (hlink : (Cond.classLink own index q.1) ∈ lw_all) (hdg : decode cc pc = .ok (.checkcast index, 3))
    (k : W p l e R s m args below meth c H locs cells slots Q (F0 m (pc + 3) ls (.ref a :: rest))) : W p l e R s m args below meth c H locs cells slots Q (F0 m pc ls (.ref a :: rest)) :=
  va_castS hF.1.1 hF.1.2.1 hF.1.2.2.2.1 (hF.1.2.2.2.2 _ hlink) (hF.2.1.1 ci q hc).2 (g_recv hF hG he hc) hdg k
theorem g_gets (hF : gXK p m c cc nL s args own g A R rm) (hG : gJK g L0 A s.heap G n H locs) (k : Nat) {q : String × String × String × Value} (hk : (stL g.2.2.2)[k]? = some q) {index : Nat} (hlink : (Cond.fieldLink own index q.1 q.2.1 q.2.2.1) ∈ lw_all) (hdg : decode cc pc = .ok (.getstatic index, 3))
    (kk : W p l e R s m args below meth c H locs cells slots Q (F0 m (pc + 3) ls (q.2.2.2 :: rest))) : W p l e R s m args below meth c H locs cells slots Q (F0 m pc ls rest) :=
  va_gets hF.1.1 hF.1.2.1 (hF.2.2.2.1.2.2.2.2.2.1 q (List.mem_of_getElem? hk)).1 hG.2.2.1 hF.1.2.2.2.1 (hF.1.2.2.2.2 _ hlink) (fun _ h => h) hdg kk
theorem g_callF {y x : MethodName} {bytes : ByteArray} {maxL mc ms k index count fr lo : Nat} {ret : Option FieldType} {As st0 : List Value} {RR : Option Value → GH → Nat → Prop} {lv : List (Nat × Value)} (hF : gXK p m c cc nL s args own g A R rm) (hG : gJK g L0 A s.heap G n H locs) (hl : lv_has ls nL lv) {C : String} {T : u_T} {N ci : Nat} {fs : List Value} (he : G a = some (.inr (ci, fs))) (hc : clX[ci]? = some (C, T, N)) (hM : gMet l y (ws_ y bytes maxL ret) g.1 clX L0 (gK g) (.ref a :: As) G n fr lo mc ms RR) (cw : va_CI R s args own C index x y bytes maxL ret (ws_ y bytes maxL ret) ({ frames := fr, cells := mc, slots := ms, locals := lo } : Room) mc ms k) (hn : As.length = k) (hstack : st0 = As.reverse ++ .ref a :: rest) (hW : (rest.map fun v => v.category).sum ≤ 8) (hdg : decode cc pc = .ok (.invokeinterface index count, 5)) (hf : cells + mc ≤ R.cells ∧ slots + ms ≤ R.slots)
    (kk : ∀ (v : Option Value) (G' : GH) (n' : Nat) (H' : Heap) (locs' : List Loc), RR v G' n' → gJK g L0 A s.heap G' n' H' locs' → W p l e R s m args below meth c H' locs' (cells + mc) (slots + ms) Q (F0 m (pc + 5) ls (v.toList ++ rest))) : W p l e R s m args below meth c H locs cells slots Q (F0 m pc ls st0) := by
  have hr := va_runF (locs := locs) (meth := meth) (below := below) (e := e) (hF.2.1.1 ci _ hc).2 hF.1 hM cw ⟨gPc_blind hF.2.2.1, g_recv hF hG he hc, g_pre hF hG _⟩ (g := F0 m pc ls st0) rfl hn hl.1 hstack (lv_room hW) hdg hf
  intro T1 hT X
  obtain ⟨v, st₀, t, T', L, h0, X', hL, e1, e2, ⟨⟨v', G', hv, hRR, hat⟩, hz, hk⟩, st⟩ := hr T1 hT X
  cases hv
  rw [h0] at hz hk
  obtain ⟨q1, q2, q3, q4, q5⟩ := hG
  have hsub : ∀ q, gA L0 G n q → A q := fun q hq => by
    rcases hq with ⟨h5, e5, h6⟩ | h5
    · exact q2 q e5 h6 h5
    · exact q4 q (Nat.le_trans q3.1 (by rw [q5]; exact h5))
  have hJ : gJK g L0 A s.heap G' t.heap.size T'.heap (locs ++ L) := by
    rw [e1]
    refine ⟨fun b e' hb => (hat b e' hb).1, fun b e' hb hl => hsub b ((hat b e' hb).2 hl), ⟨Nat.le_trans q3.1 hz, fun q h1 h2 => ?_, fun q hq => ?_⟩, q4, rfl⟩
    · rw [hk q (Nat.lt_of_lt_of_le h1 q3.1) (fun z => h2 (hsub q z))]
      exact q3.2.1 q h1 h2
    · rcases List.mem_append.mp hq with h | h
      · exact q3.2.2 q h
      · exact hsub _ (hL q h)
  obtain ⟨t2, a1, b1⟩ := kk v G' _ T'.heap (locs ++ L) hRR hJ T' rfl X'
  exact ⟨t2, st t2 a1, b1⟩
theorem g_fw (hF : gXK p m c cc nL s args own g A R rm) (k : Nat) {q : String × MethodName × MethodName} (hk : fwL[k]? = some q) : va_Fw q.1 q.2.1 q.2.2 s := hF.2.2.2.1.2.2.1 q (List.mem_of_getElem? hk)
end GK
