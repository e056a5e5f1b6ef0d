/-! THE SYSTEM'S HEAP, as a partial map of addresses to cells: an object by its class number (ga_cl) and fields, an array by its type number (ga_tys) and contents -/
abbrev ga_C : Type := (Nat × vp_A) ⊕ (Nat × List Value)
abbrev ga_H : Type := Nat → Option ga_C
/-- what is constant: cells that nobody writes, addresses that statics and literals hold -/
abbrev ga_K : Type := ga_H × (Nat → Nat)
abbrev ga_G : Type := (va_G × (Nat → ClassId)) × Nat × ga_K
abbrev ga_cl : List vw_C := [(RX1, TX1, 8), (RX2, TX2, 10), (RX3, TX3, 6), (RX4, TX4, 1), (RX6, TX6, 5), (RX7, TX7, 2), (RX8, TX8, 5), (RX9, TX9, 3), (RX10, TX10, 8), (RX11, TX11, 2), (RX12, TX12, 4), (RX13, TX13, 7), (RX14, TX14, 2), (RJ2, TJ2, 3), (RJ16, TJ16, 4), (RJ4, TJ4, 8), (RJ32, TJ32, 4), (RJ37, TJ37, 1), (RJ18, TJ18, 5), (RJ21, TJ21, 1), (RJ19, TJ19, 5), (RJ44, TJ44, 1), (RJ6, TJ6, 4), (RJ7, TJ7, 4), (RJ30, TJ30, 1), (RJ40, TJ40, 3), (RJ49, TJ49, 2), (RJ22, TJ22, 4), (RJ38, TJ38, 0), ("java/lang/Object", TJ38, 0), (RX5, TX5, 16)]
abbrev ga_O (ci : Nat) (fs : List Value) : ga_C := .inr (ci, fs)
abbrev ga_Ai (n : Nat) (f : Nat → Int32) : ga_C := .inl (0, n, .inl f)
abbrev ga_Ab (n : Nat) (f : Nat → Int32) : ga_C := .inl (1, n, .inl f)
abbrev ga_Ac (n : Nat) (f : Nat → Int32) : ga_C := .inl (2, n, .inl f)
abbrev ga_Al (n : Nat) (f : Nat → Int64) : ga_C := .inl (3, n, .inr (.inl f))
abbrev ga_Ad (n : Nat) (f : Nat → UInt64) : ga_C := .inl (4, n, .inr (.inr (.inr (.inl f))))
abbrev ga_Aq (t n : Nat) (f : Nat → Option Nat) : ga_C := .inl (t, n, .inr (.inr (.inr (.inr f))))
def ga_set (h : ga_H) (a : Nat) (c : ga_C) : ga_H := fun b => if b = a then some c else h b
theorem ga_set_s (h : ga_H) (a : Nat) (c : ga_C) : ga_set h a c a = some c := if_pos rfl
theorem ga_set_n (h : ga_H) {a b : Nat} (c : ga_C) (n : b ≠ a) : ga_set h a c b = h b := if_neg n
/-- a cell that is read: of the heap, or a constant one -/
def ga_at (K : ga_K) (h : ga_H) (a : Nat) (c : ga_C) : Prop := h a = some c ∨ K.1 a = some c
abbrev ga_tys (g : ga_G) : List (ClassId × FieldType) := [(g.1.2 0, .int), (g.1.2 1, .byte), (g.1.2 2, .char), (g.1.2 3, .long), (g.1.2 4, .double), (g.1.2 5, .object "java/lang/Object"), (g.1.2 6, .object "PaperStore$Aisle"), (g.1.2 7, .object "PaperStore$Shelf"), (g.1.2 8, .object "java/util/HashMap$Node"), (g.1.2 9, .object "java/lang/Integer")]
def ga_A (g : ga_G) : Nat → Prop := fun q => g.2.1 ≤ q
def ga_tr (g : ga_G) : ga_C → va_E := fun c => match c with
  | .inl x => .inl (g.1.2 x.1, x.2)
  | .inr o => .inr o
def ga_f (g : ga_G) (h : ga_H) : Nat → va_E := fun a => match h a with
  | some c => ga_tr g c
  | none => .inr (0, [])
def ga_R (g : ga_G) (h : ga_H) (H : Heap) : Prop := ∃ L : List Nat, (∀ a, a ∈ L ↔ h a ≠ none) ∧ va_P g.1.1 ga_cl (va_pl L (ga_f g h)) H ∧ va_D (ga_A g) (va_pl L (ga_f g h))
def ga_nwk : Cond → Bool
  | .fieldLinkNest _ _ _ _ _ _ => true
  | .methodLinkNest _ _ _ _ => true
  | .castable _ _ => true
  | .declares _ => true
  | .privateMethod _ => true
  | .arrayOver (.object _) => true
  | _ => false
def ga_nw : List Cond := lw_tbl.filter ga_nwk
theorem ga_nin {w : Cond} (h : w ∈ lw_tbl) (k : ga_nwk w = true) : w ∈ ga_nw := List.mem_filter.mpr ⟨h, k⟩
theorem ga_nwk_moved {w : Cond} (hk : ga_nwk w = true) {s U : State} (hW : s.WarmedH U.vm) (h : va_Nw w s) : va_Nw w U := by
  cases w with
  | fieldLinkNest a b c d e f => exact va_Nw.warmF hW h
  | methodLinkNest a b c d => exact va_Nw.warmM hW h
  | castable a b => exact va_Nw.warmC hW h
  | declares a => exact va_Nw.warmD hW h
  | privateMethod a => exact va_tabs rfl (rfl : (s.setVm U.vm).vm = U.vm) (by rw [Cond.privateMethod_setVm hW.alike]; exact h)
  | arrayOver t =>
    cases t with
    | object C => exact va_AO.moved (C := C) hW.alike h
    | _ => cases hk
  | _ => cases hk
theorem ga_nwk_same {w : Cond} (hk : ga_nwk w = true) {s U : State} (hv : s.vm = U.vm) (h : va_Nw w s) : va_Nw w U := by
  cases w with
  | fieldLinkNest a b c d e f => exact va_Nw.same rfl hv h
  | methodLinkNest a b c d => exact va_Nw.same rfl hv h
  | castable a b => exact va_Nw.same rfl hv h
  | declares a => exact va_Nw.same rfl hv h
  | privateMethod a => exact va_Nw.same rfl hv h
  | arrayOver t =>
    cases t with
    | object C => exact va_AO.moved (C := C) (by rw [hv]; exact Vm.Alike.refl _) h
    | _ => cases hk
  | _ => cases hk
/-- an interface's call of a class's method, where the tables have all that it asks -/
def ga_fwk (C : String) (x y : MethodName) : Prop := (x.cls ≠ "java/lang/invoke/MethodHandle" ∧ x.cls ≠ "java/lang/invoke/VarHandle") ∧ Cond.declares x ∈ lw_tbl ∧ Cond.interfaceMethod x.cls x.cls x.name x.desc ∈ lw_tbl ∧ Cond.publicMethod y ∈ lw_tbl ∧ Cond.unhidden C x.name x.desc ∈ lw_tbl ∧ Cond.castable C x.cls ∈ lw_tbl
/-- classes that can't be cast -/
abbrev ga_nc : List (String × String) := [("java/util/HashMap$Node", "java/util/HashMap$TreeNode"), ("java/lang/IllegalArgumentException", "java/lang/IndexOutOfBoundsException"), ("java/lang/UnsupportedOperationException", "java/lang/IndexOutOfBoundsException"), ("java/lang/UnsupportedOperationException", "java/lang/IllegalArgumentException"), ("java/util/NoSuchElementException", "java/lang/IllegalArgumentException"), ("java/util/NoSuchElementException", "java/lang/IndexOutOfBoundsException"), ("java/lang/IllegalStateException", "java/lang/IllegalArgumentException"), ("java/lang/UnsupportedOperationException", "java/lang/IllegalStateException"), ("PaperStore$Refusal", "PaperStore$BadText"), ("java/lang/IllegalStateException", "PaperStore$BadText"), ("java/lang/IllegalStateException", "PaperStore$Refusal")]
/-- a reference or null, as a number -/
def ga_op (n : Nat) : Option Nat := if n = 0 then none else some (n - 1)
/-- statics: their values -/
abbrev ga_zs (K : ga_K) : List (String × String × String × Value) := [("java/util/ArrayList", "DEFAULTCAPACITY_EMPTY_ELEMENTDATA", "[Ljava/lang/Object;", .ref (K.2 0)), ("java/lang/String", "COMPACT_STRINGS", "Z", .int 1), ("java/lang/Integer$IntegerCache", "high", "I", .int 127), ("java/lang/Integer$IntegerCache", "cache", "[Ljava/lang/Integer;", .ref (K.2 1)), ("java/lang/Integer", "DigitOnes", "[B", .ref (K.2 2)), ("java/lang/Integer", "DigitTens", "[B", .ref (K.2 3)), ("java/util/HashSet", "PRESENT", "Ljava/lang/Object;", .ref (K.2 4)), ("java/util/BitSet", "$assertionsDisabled", "Z", .int 1), ("java/util/ImmutableCollections", "$assertionsDisabled", "Z", .int 1), ("java/lang/StrictMath", "$assertionsDisabled", "Z", .int 1), ("jdk/internal/util/Preconditions", "SIOOBE_FORMATTER", "Ljava/util/function/BiFunction;", va_rf (ga_op (K.2 36)))]
/-- text literals: class, entry, text, address -/
abbrev ga_ks (K : ga_K) : List (String × Nat × String × Nat) := [("PaperStore", 395, "/", K.2 20), ("PaperStore", 374, "", K.2 21), ("PaperStore", 376, ",", K.2 22), ("PaperStore", 385, "~", K.2 23), ("PaperStore", 390, "-", K.2 24), ("PaperStore$Parser", 69, "push", K.2 25), ("PaperStore$Parser", 71, "gather", K.2 26), ("PaperStore$Parser", 73, "send", K.2 27), ("PaperStore$Parser", 75, "trap", K.2 28), ("PaperStore$Parser", 77, "air", K.2 29), ("PaperStore$Parser", 79, "days", K.2 30), ("PaperStore$Command", 25, "push", K.2 31), ("PaperStore$Command", 31, "gather", K.2 32), ("PaperStore$Command", 33, "send", K.2 33), ("PaperStore$Command", 35, "trap", K.2 34), ("PaperStore$Command", 37, "air", K.2 35)]
/-- what is known at a method's start, and stays -/
def ga_Kn (g : ga_G) (U : State) : Prop :=
  (va_K g.1.1 ga_cl (ga_tys g) U ∧ (∀ w ∈ ga_nw, va_Nw w U) ∧ (∀ (C : String) (x y : MethodName), ga_fwk C x y → va_Fw C x y U)) ∧
  ((∀ x ∈ ga_nc, va_Nc x.1 x.2 U) ∧ (∀ x ∈ ga_zs g.2.2, va_Z x.1 x.2.1 x.2.2.1 x.2.2.2 (ga_A g) U U.heap) ∧ (∀ x ∈ ga_ks g.2.2, vk_R x.1 x.2.1 x.2.2.1 x.2.2.2 U)) ∧
  (∀ (a : Nat) (c : ga_C), g.2.2.1 a = some c → a < g.2.1 ∧ va_at g.1.1 ga_cl (a, ga_tr g c) U.heap) ∧ g.2.1 ≤ U.heap.size ∧
  vx_Zq Bundle.tN "UNASSIGNED_STACK" Bundle.steD (ga_A g) U U.heap ∧ vx_Zq Bundle.tN "SUPPRESSED_SENTINEL" Bundle.listD (ga_A g) U U.heap ∧ va_Mi "[Ljava/lang/Object;" (g.2.2.2 5) U
def ga_B (g : ga_G) (h : ga_H) (U : State) : Prop := ga_R g h U.heap ∧ ga_Kn g U
def ga_E (g : ga_G) (h : ga_H) (t : State) : Prop := ga_R g h t.heap
def ga_I (g : ga_G) (h : ga_H) (s : State) (H : Heap) (locs : List Loc) : Prop := ga_R g h H ∧ ga_Kn g s ∧ va_S (ga_A g) s.heap H locs
/-- a throw's end: the class, the cell, the heap -/
def ga_X (g : ga_G) (xp : String → Nat → ga_H → Prop) : String → Addr → State → State → Prop :=
  vx_X (S := String × Nat × ga_H) (fun u => xp u.1 u.2.1 u.2.2) (fun E q u t => u.1 = E ∧ u.2.1 = q ∧ ga_R g u.2.2 t.heap) (ga_A g)
theorem ga_at.h {K : ga_K} {h : ga_H} {a : Nat} {c : ga_C} (e : h a = some c) : ga_at K h a c := Or.inl e
theorem ga_at.k {K : ga_K} {h : ga_H} {a : Nat} {c : ga_C} (e : K.1 a = some c) : ga_at K h a c := Or.inr e
theorem va_at.keptlt {D : va_G} {cl : List vw_C} {q : Nat × va_E} {H H1 : Heap} (h : va_at D cl q H) (hq : ∀ b, b < H.size → b = q.1 → H1[b]? = H[b]?) : va_at D cl q H1 := h.kept (hq q.1 h.lt rfl)
theorem ga_Kn.call {g : ga_G} {s U : State} {H : Heap} {locs : List Loc} (h : ga_Kn g s) (hS : va_S (ga_A g) s.heap H locs) (hU : U.heap = H) (hW : s.WarmedH U.vm) : ga_Kn g U := by
  obtain ⟨⟨hK, hn, hf⟩, ⟨hc, hz, hk⟩, ho, hs, hu, hp, hm⟩ := h
  have hq : ∀ a : Nat, a < s.heap.size → ¬ ga_A g a → U.heap[a]? = s.heap[a]? := fun a h1 h2 => by rw [hU]; exact hS.2.1 a h1 h2
  refine ⟨⟨va_K.moved hW.alike hK, fun w hw => ga_nwk_moved (List.mem_filter.mp hw).2 hW (hn w hw), fun C x y q => va_Fw.moved q.1 hW.alike (hf C x y q)⟩, ⟨fun x hx => (hc x hx).moved hW.alike, fun x hx => ((hz x hx).moved hW.alike).kept hq, fun x hx => (hk x hx).warm hW⟩, fun a c hac => ?_, Nat.le_trans hs (by rw [hU]; exact hS.1), (hu.moved hW.alike).kept hq, (hp.moved hW.alike).kept hq, hm.moved hW.alike⟩
  obtain ⟨h1, h2⟩ := ho a c hac
  exact ⟨h1, h2.kept (hq a h2.lt (Nat.not_le.mpr h1))⟩
theorem ga_Kn.same {g : ga_G} {s U : State} (h : ga_Kn g s) (hU : U.heap = s.heap) (hv : U.vm = s.vm) : ga_Kn g U := by
  obtain ⟨⟨hK, hn, hf⟩, ⟨hc, hz, hk⟩, ho, hs, hu, hp, hm⟩ := h
  have ha : s.vm.Alike U.vm := by rw [hv]; exact Vm.Alike.refl s.vm
  refine ⟨⟨va_K.moved ha hK, fun w hw => ga_nwk_same (List.mem_filter.mp hw).2 hv.symm (hn w hw), fun C x y q => va_Fw.moved q.1 ha (hf C x y q)⟩, ⟨fun x hx => (hc x hx).moved ha, fun x hx => by rw [hU]; exact (hz x hx).moved ha, fun x hx => (hk x hx).same hv⟩, fun a c hac => by rw [hU]; exact ho a c hac, by rw [hU]; exact hs, by rw [hU]; exact hu.moved ha, by rw [hU]; exact hp.moved ha, hm.moved ha⟩
theorem ga_blind {g : ga_G} {h : ga_H} {As : List Value} : FrameBlind (va_Pc As (ga_B g h)) := by
  intro a U gg mk q
  obtain ⟨h1, hR, hK⟩ := q
  exact ⟨h1, hR, hK.same rfl rfl⟩
/-! the relation of heap and map -/
theorem ga_f_s {g : ga_G} {h : ga_H} {a : Nat} {c : ga_C} (e : h a = some c) : ga_f g h a = ga_tr g c := by simp [ga_f, e]
theorem ga_R.get {g : ga_G} {h : ga_H} {H : Heap} (hR : ga_R g h H) {a : Nat} {c : ga_C} (e : h a = some c) : va_P g.1.1 ga_cl [(a, ga_tr g c)] H := by
  obtain ⟨L, hL, hP, hD⟩ := hR
  have ha : a ∈ L := (hL a).mpr (by rw [e]; simp)
  obtain ⟨k, hk⟩ := va_pl_get (X := []) (f := ga_f g h) ha
  rw [List.nil_append, ga_f_s e] at hk
  intro j q hj
  have hj0 : j = 0 := by
    have := (List.getElem?_eq_some_iff.mp hj).1
    simp at this
    exact this
  subst hj0
  cases hj
  exact hP k _ hk
theorem ga_I.get {g : ga_G} {h : ga_H} {s : State} {H : Heap} {locs : List Loc} (hI : ga_I g h s H locs) {a : Nat} {c : ga_C} (e : ga_at g.2.2 h a c) : va_P g.1.1 ga_cl [(a, ga_tr g c)] H := by
  rcases e with e | e
  · exact hI.1.get e
  · obtain ⟨h1, h2⟩ := hI.2.1.2.2.1 a c e
    have h3 := h2.kept (hI.2.2.2.1 a h2.lt (Nat.not_le.mpr h1))
    intro j q hj
    have hj0 : j = 0 := by
      have := (List.getElem?_eq_some_iff.mp hj).1
      simp at this
      exact this
    subst hj0
    cases hj
    exact h3
theorem ga_R.in {g : ga_G} {h : ga_H} {H : Heap} (hR : ga_R g h H) {a : Nat} {c : ga_C} (e : h a = some c) : ga_A g a := by
  obtain ⟨L, hL, hP, hD⟩ := hR
  have ha : a ∈ L := (hL a).mpr (by rw [e]; simp)
  obtain ⟨k, hk⟩ := va_pl_get (X := []) (f := ga_f g h) ha
  rw [List.nil_append] at hk
  exact hD.2 k _ hk
/-- the world as a list, for a row of the kit that changes the cell at a -/
theorem ga_R.put1 {g : ga_G} {h : ga_H} {H : Heap} (hR : ga_R g h H) {a : Nat} {c : ga_C} (e : h a = some c) : ∃ (ws : va_W) (k : Nat), va_P g.1.1 ga_cl ws H ∧ va_D (ga_A g) ws ∧ ws[k]? = some (a, ga_tr g c) ∧ (∀ (H1 : Heap) (c1 : ga_C), va_P g.1.1 ga_cl (ws.set k (a, ga_tr g c1)) H1 → va_D (ga_A g) (ws.set k (a, ga_tr g c1)) → ga_R g (ga_set h a c1) H1) := by
  obtain ⟨L, hL, hP, hD⟩ := hR
  have ha : a ∈ L := (hL a).mpr (by rw [e]; simp)
  obtain ⟨k, hk⟩ := va_pl_get (X := []) (f := ga_f g h) ha
  rw [List.nil_append] at hk
  refine ⟨va_pl L (ga_f g h), k, hP, hD, by rw [hk, ga_f_s e], fun H1 c1 h1 h2 => ⟨L, fun b => ?_, ?_⟩⟩
  · by_cases hb : b = a
    · subst hb
      simp [ga_set, ha]
    · rw [ga_set_n h c1 hb]
      exact hL b
  · have hs := va_pl_set (X := []) (A := ga_A g) (L := L) (f := ga_f g h) (e := ga_tr g c1) (by rw [List.nil_append]; exact hD) ha (by rw [List.nil_append]; exact hk)
    rw [List.nil_append, List.nil_append] at hs
    rw [hs] at h1 h2
    have hf : ga_f g (ga_set h a c1) = va_up (ga_f g h) a (ga_tr g c1) := by
      funext b
      by_cases hb : b = a
      · subst hb
        simp [ga_f, ga_set, va_up]
      · simp [ga_f, ga_set, va_up, hb]
    rw [hf]
    exact ⟨h1, h2⟩
/-- .. that makes a cell -/
theorem ga_R.mk1 {g : ga_G} {h : ga_H} {H : Heap} (hR : ga_R g h H) : ∃ ws : va_W, va_P g.1.1 ga_cl ws H ∧ va_D (ga_A g) ws ∧ (∀ (H1 : Heap) (q : Nat) (c1 : ga_C), va_P g.1.1 ga_cl (ws ++ [(q, ga_tr g c1)]) H1 → va_D (ga_A g) (ws ++ [(q, ga_tr g c1)]) → h q = none ∧ g.2.1 ≤ q ∧ ga_R g (ga_set h q c1) H1) := by
  obtain ⟨L, hL, hP, hD⟩ := hR
  refine ⟨va_pl L (ga_f g h), hP, hD, fun H1 q c1 h1 h2 => ?_⟩
  have hq : q ∉ L := fun hm => by
    obtain ⟨k, hk⟩ := va_pl_get (X := []) (f := ga_f g h) hm
    rw [List.nil_append] at hk
    have hlt := (List.getElem?_eq_some_iff.mp hk).1
    have e1 : (va_pl L (ga_f g h) ++ [(q, ga_tr g c1)])[k]? = some (q, ga_f g h q) := by rw [List.getElem?_append_left hlt]; exact hk
    have e2 : (va_pl L (ga_f g h) ++ [(q, ga_tr g c1)])[(va_pl L (ga_f g h)).length]? = some (q, ga_tr g c1) := by simp
    have := h2.1 _ _ _ _ e1 e2 rfl
    omega
  have hn : h q = none := Classical.byContradiction fun z => hq ((hL q).mpr z)
  refine ⟨hn, ?_, L ++ [q], fun b => ?_, ?_⟩
  · have e2 : (va_pl L (ga_f g h) ++ [(q, ga_tr g c1)])[(va_pl L (ga_f g h)).length]? = some (q, ga_tr g c1) := by simp
    exact h2.2 _ _ e2
  · by_cases hb : b = q
    · subst hb
      simp [ga_set]
    · rw [ga_set_n h c1 hb, ← hL b]
      simp [hb]
  · rw [va_pl_push hq] at h1 h2
    have hf : ga_f g (ga_set h q c1) = va_up (ga_f g h) q (ga_tr g c1) := by
      funext b
      by_cases hb : b = q
      · subst hb
        simp [ga_f, ga_set, va_up]
      · simp [ga_f, ga_set, va_up, hb]
    rw [hf]
    exact ⟨h1, h2⟩
