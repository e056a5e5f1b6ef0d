/-! PLAIN LAWS: ArrayList. pl_AL K h a arr L: at a lies an ArrayList with the elements L, its array at arr -/
def pl_AL (K : ga_K) (h : ga_H) (a arr : Nat) (L : List (Option Nat)) : Prop :=
  ∃ (c : Int32) (n : Nat) (f : Nat → Option Nat), h a = some (ga_O 13 [.int c, va_rf (some arr), .int (nI L.length)]) ∧ L.length ≤ n ∧ n ≤ 100000 ∧ (∀ i : Nat, i < L.length → f i = L.getD i none) ∧ ((n = 0 ∧ arr = K.2 0 ∧ K.1 arr = some (ga_Aq 5 0 f)) ∨ (0 < n ∧ arr ≠ a ∧ h arr = some (ga_Aq 5 n f)))
theorem ga_sa {h' h : ga_H} {a : Nat} {c : ga_C} (e : h' = ga_set h a c) : h' a = some c := by rw [e]; exact ga_set_s h a c
theorem ga_so {h' h : ga_H} {a b : Nat} {c : ga_C} (e : h' = ga_set h a c) (n : b ≠ a) : h' b = h b := by rw [e]; exact ga_set_n h c n
theorem pl_AL_init {K : ga_K} {h : ga_H} {a : Nat} {post : ga_H → Prop} (h0 : h a = some (ga_O 13 [.int 0, va_rf none, .int 0])) (hK : ∃ f, K.1 (K.2 0) = some (ga_Aq 5 0 f)) (hp : ∀ h' : ga_H, pl_AL K h' a (K.2 0) [] → (∀ b, b ≠ a → h' b = h b) → post h') : gw_J2_init K a h post := by
  obtain ⟨f, hf⟩ := hK
  refine ⟨_, h0, Nat.le_of_ble_eq_true rfl, fun h1 e1 => ⟨_, ga_sa e1, Nat.le_of_ble_eq_true rfl, fun h2 e2 => hp h2 ⟨0, 0, f, ga_sa e2, Nat.le_refl _, by omega, fun i hi => absurd hi (Nat.not_lt_zero i), Or.inl ⟨rfl, rfl, hf⟩⟩ fun b hb => ?_⟩⟩
  rw [e2, ga_set_n _ _ hb, e1, ga_set_n _ _ hb]
theorem pl_AL_size {K : ga_K} {h : ga_H} {a arr : Nat} {L : List (Option Nat)} {post : Int32 → ga_H → Prop} (h0 : pl_AL K h a arr L) (hp : post (nI L.length) h) : gw_J2_size K a h post := by
  obtain ⟨c, n, f, h1, -⟩ := h0
  exact ⟨_, _, h1, rfl, hp⟩
theorem pl_nI_toInt {n : Nat} (h : n ≤ 1000000) : (nI n).toInt = n := by
  unfold nI
  rw [Int32.toInt_ofNat_of_lt (by omega)]
theorem pl_nI_nat {n : Nat} (h : n ≤ 1000000) : (nI n).toNatClampNeg = n := by
  show (nI n).toInt.toNat = n
  rw [pl_nI_toInt h]
  rfl
theorem pl_nI_lt {m n : Nat} (hm : m ≤ 1000000) (hn : n ≤ 1000000) : nI m < nI n ↔ m < n := by
  rw [Int32.lt_iff_toInt_lt, pl_nI_toInt hm, pl_nI_toInt hn]
  omega
theorem pl_nI_neg {n : Nat} (h : n ≤ 1000000) : ¬ nI n < 0 := by
  rw [Int32.lt_iff_toInt_lt, pl_nI_toInt h]
  show ¬ (n : Int) < 0
  omega
theorem pl_in {i n : Nat} (hi : i ≤ 1000000) (h : i < n) : vp_in (nI i) n := by
  unfold vp_in
  rw [pl_nI_nat hi]
  intro z
  rcases z with z | z
  · exact pl_nI_neg hi z
  · omega
theorem pl_AL_get {K : ga_K} {h : ga_H} {a arr i : Nat} {L : List (Option Nat)} {post : Option Nat → ga_H → Prop} (h0 : pl_AL K h a arr L) (hi : i < L.length) (hp : post (L.getD i none) h) : gw_J2_get K a (nI i) h post := by
  obtain ⟨c, n, f, h1, h2, h3, h4, h5⟩ := h0
  have hi6 : i ≤ 1000000 := by omega
  refine ⟨_, _, h1, rfl, ?_⟩
  refine ⟨fun z => absurd z (pl_nI_neg hi6), fun _ => ⟨fun _ => ?_, fun z => absurd ((pl_nI_lt hi6 (by omega)).mpr hi) z⟩⟩
  refine ⟨_, Or.inl h1, _, some arr, h1, rfl, arr, rfl, n, f, ?_, pl_in hi6 (by omega), fun v e => ?_⟩
  · rcases h5 with ⟨rfl, -, h5⟩ | ⟨-, -, h5⟩
    · exact Or.inr h5
    · exact Or.inl h5
  · rw [e, pl_nI_nat hi6, h4 i hi]
    exact hp
theorem pl_ok_set {K : ga_K} {h h' : ga_H} {E : String} {x : Option Nat} {a ci : Nat} {fs fs' : List Value} (hx : ga_ok K h E x) (ha : h a = some (ga_O ci fs)) (e : h' = ga_set h a (ga_O ci fs')) : ga_ok K h' E x := by
  rcases hx with hx | ⟨v, cv, fv, h1, h2, h3⟩
  · exact Or.inl hx
  · by_cases n : v = a
    · rcases h2 with h2 | h2
      · rw [n, ha] at h2
        injection h2 with h2
        injection h2 with h2
        injection h2 with h2 h4
        subst h2
        exact Or.inr ⟨v, ci, fs', h1, Or.inl (by rw [n]; exact ga_sa e), h3⟩
      · exact Or.inr ⟨v, cv, fv, h1, Or.inr h2, h3⟩
    · refine Or.inr ⟨v, cv, fv, h1, ?_, h3⟩
      rcases h2 with h2 | h2
      · exact Or.inl (by rw [ga_so e n]; exact h2)
      · exact Or.inr h2
theorem pl_ok_new {K : ga_K} {h h' : ga_H} {E : String} {x : Option Nat} {a : Nat} {c : ga_C} (hx : ga_ok K h E x) (ha : h a = none) (e : h' = ga_set h a c) : ga_ok K h' E x := by
  rcases hx with hx | ⟨v, cv, fv, h1, h2, h3⟩
  · exact Or.inl hx
  · refine Or.inr ⟨v, cv, fv, h1, ?_, h3⟩
    rcases h2 with h2 | h2
    · have n : v ≠ a := fun q => by rw [q, ha] at h2; cases h2
      exact Or.inl (by rw [ga_so e n]; exact h2)
    · exact Or.inr h2
theorem pl_ok_arr {K : ga_K} {h h' : ga_H} {E : String} {x : Option Nat} {a : Nat} {r : Nat × vp_A} {c : ga_C} (hx : ga_ok K h E x) (ha : h a = some (.inl r)) (e : h' = ga_set h a c) : ga_ok K h' E x := by
  rcases hx with hx | ⟨v, cv, fv, h1, h2, h3⟩
  · exact Or.inl hx
  · refine Or.inr ⟨v, cv, fv, h1, ?_, h3⟩
    rcases h2 with h2 | h2
    · have n : v ≠ a := fun q => by rw [q, ha] at h2; cases h2
      exact Or.inl (by rw [ga_so e n]; exact h2)
    · exact Or.inr h2
/-- add, where there is room -/
theorem pl_AL_add0 {K : ga_K} {h : ga_H} {a arr mc ms : Nat} {L : List (Option Nat)} {x : Option Nat} {post : Int32 → ga_H → Prop} {c : Int32} {n : Nat} {f : Nat → Option Nat} (h1 : h a = some (ga_O 13 [.int c, va_rf (some arr), .int (nI L.length)])) (h2 : L.length < n) (h3 : n ≤ 100000) (h4 : ∀ i : Nat, i < L.length → f i = L.getD i none) (h5 : arr ≠ a) (h7 : h arr = some (ga_Aq 5 n f)) (hx : ga_ok K h "java/lang/Object" x)
    (hp : ∀ h' : ga_H, pl_AL K h' a arr (L ++ [x]) → (∀ b, b ≠ a → b ≠ arr → h' b = h b) → post 1 h') : gw_J2_add K a x h mc ms post := by
  refine ⟨_, _, h1, rfl, _, h1, Nat.le_of_ble_eq_true rfl, fun k1 e1 => ⟨_, some arr, ga_sa e1, rfl, _, _, ga_sa e1, rfl, mc, ms, Nat.le_refl _, Nat.le_refl _, _, Or.inl (ga_sa e1), ?_⟩⟩
  have g7 : k1 arr = some (ga_Aq 5 n f) := by rw [ga_so e1 h5]; exact h7
  refine ⟨arr, rfl, n, f, Or.inl g7, fun _ => ?_, fun z => ?_⟩
  · refine ⟨arr, rfl, n, f, g7, pl_in (by omega) h2, pl_ok_set hx h1 e1, fun k2 e2 => ⟨_, by rw [ga_so e2 (Ne.symm h5)]; exact ga_sa e1, Nat.le_of_ble_eq_true rfl, fun k3 e3 => ?_⟩⟩
    refine hp k3 ⟨c + 1, n, va_up f L.length x, ?_, by simp; omega, h3, fun i hi => ?_, Or.inr ⟨by omega, h5, ?_⟩⟩ (fun b hb hb2 => by rw [ga_so e3 hb, ga_so e2 hb2, ga_so e1 hb])
    · rw [ga_sa e3, pl_add1]
      simp
    · have hi' : i < L.length + 1 := by simpa using hi
      by_cases q : i = L.length
      · subst q
        simp [va_up]
      · have : i < L.length := by omega
        rw [va_up_ne _ _ q, h4 i this]
        simp [List.getD, List.getElem?_append_left this]
    · rw [ga_so e3 h5, ga_sa e2, pl_nI_nat (by omega)]
  · exfalso
    have := congrArg Int32.toInt z
    rw [pl_nI_toInt (by omega), pl_nI_toInt (by omega)] at this
    omega
/-- add, into a list without an array of its own -/
theorem pl_AL_add1 {K : ga_K} {h : ga_H} {a mc ms : Nat} {x : Option Nat} {post : Int32 → ga_H → Prop} {c : Int32} {f : Nat → Option Nat} (h1 : h a = some (ga_O 13 [.int c, va_rf (some (K.2 0)), .int (nI 0)])) (h7 : K.1 (K.2 0) = some (ga_Aq 5 0 f)) (hx : ga_ok K h "java/lang/Object" x) (hmc : 1 ≤ mc) (hms : 10 ≤ ms)
    (hp : ∀ (h' : ga_H) (arr' : Nat), pl_AL K h' a arr' [x] → h arr' = none → (∀ b, b ≠ a → b ≠ arr' → h' b = h b) → post 1 h') : gw_J2_add K a x h mc ms post := by
  refine ⟨_, _, h1, rfl, _, h1, Nat.le_of_ble_eq_true rfl, fun k1 e1 => ⟨_, some (K.2 0), ga_sa e1, rfl, _, _, ga_sa e1, rfl, mc, ms, Nat.le_refl _, Nat.le_refl _, _, Or.inl (ga_sa e1), ?_⟩⟩
  refine ⟨K.2 0, rfl, 0, f, Or.inr h7, fun z => absurd rfl z, fun _ => ⟨mc, ms, Nat.le_refl _, Nat.le_refl _, _, Or.inl (ga_sa e1), ?_⟩⟩
  refine ⟨_, _, ga_sa e1, rfl, mc, ms, Nat.le_refl _, Nat.le_refl _, _, Or.inl (ga_sa e1), ?_⟩
  refine ⟨_, some (K.2 0), ga_sa e1, rfl, K.2 0, rfl, 0, f, Or.inr h7, fun z => absurd z (by decide), fun _ => ⟨_, some (K.2 0), ga_sa e1, rfl, fun _ r er => ?_, fun z => absurd rfl z⟩⟩
  have hr : r = 10 := by rw [er]; decide
  subst hr
  refine ⟨by decide, by decide, hmc, hms, fun q hq k2 e2 => ?_⟩
  have hqa : q ≠ a := fun z => by rw [z, ga_sa e1] at hq; cases hq
  have hq0 : h q = none := by rw [← ga_so e1 hqa]; exact hq
  have g2 : k2 a = some (ga_O 13 [.int (c + 1), va_rf (some (K.2 0)), .int (nI 0)]) := by rw [ga_so e2 (Ne.symm hqa)]; exact ga_sa e1
  refine ⟨_, g2, Nat.le_of_ble_eq_true rfl, fun k3 e3 => ?_⟩
  have g3 : k3 q = some (ga_Aq 5 10 (fun _ => none)) := by rw [ga_so e3 hqa]; exact ga_sa e2
  refine ⟨q, rfl, 10, fun _ => none, g3, pl_in (i := 0) (by omega) (by omega), pl_ok_set (pl_ok_new (pl_ok_set hx h1 e1) hq e2) g2 e3, fun k4 e4 => ⟨_, by rw [ga_so e4 (Ne.symm hqa)]; exact ga_sa e3, Nat.le_of_ble_eq_true rfl, fun k5 e5 => ?_⟩⟩
  refine hp k5 q ⟨c + 1, 10, va_up (fun _ => none) 0 x, ?_, by simp, by omega, fun i hi => ?_, Or.inr ⟨by omega, hqa, ?_⟩⟩ hq0 (fun b hb hb2 => by rw [ga_so e5 hb, ga_so e4 hb2, ga_so e3 hb, ga_so e2 hb2, ga_so e1 hb])
  · rw [ga_sa e5, pl_add1]
    simp
  · have : i = 0 := by simpa using hi
    subst this
    simp [va_up]
  · rw [ga_so e5 hqa, ga_sa e4]
    rfl
/-- add, into a full list -/
theorem pl_AL_add2 {K : ga_K} {h : ga_H} {a arr mc ms : Nat} {L : List (Option Nat)} {x : Option Nat} {post : Int32 → ga_H → Prop} {c : Int32} {f : Nat → Option Nat} (h1 : h a = some (ga_O 13 [.int c, va_rf (some arr), .int (nI L.length)])) (h0 : 0 < L.length) (h3 : L.length ≤ 1000) (h4 : ∀ i : Nat, i < L.length → f i = L.getD i none) (h5 : arr ≠ a) (h7 : h arr = some (ga_Aq 5 L.length f)) (hx : ga_ok K h "java/lang/Object" x) (hL : ∀ i : Nat, i < L.length → ga_ok K h "java/lang/Object" (L.getD i none)) (hmc : 1 ≤ mc) (hms : 2 * L.length + 10 ≤ ms)
    (hp : ∀ (h' : ga_H) (arr' : Nat), pl_AL K h' a arr' (L ++ [x]) → h arr' = none → (∀ b, b ≠ a → b ≠ arr' → h' b = h b) → post 1 h') : gw_J2_add K a x h mc ms post := by
  refine ⟨_, _, h1, rfl, _, h1, Nat.le_of_ble_eq_true rfl, fun k1 e1 => ⟨_, some arr, ga_sa e1, rfl, _, _, ga_sa e1, rfl, mc, ms, Nat.le_refl _, Nat.le_refl _, _, Or.inl (ga_sa e1), ?_⟩⟩
  have g7 : k1 arr = some (ga_Aq 5 L.length f) := by rw [ga_so e1 h5]; exact h7
  refine ⟨arr, rfl, _, f, Or.inl g7, fun z => absurd rfl z, fun _ => ⟨mc, ms, Nat.le_refl _, Nat.le_refl _, _, Or.inl (ga_sa e1), ?_⟩⟩
  refine ⟨_, _, ga_sa e1, rfl, mc, ms, Nat.le_refl _, Nat.le_refl _, _, Or.inl (ga_sa e1), ?_⟩
  refine ⟨_, some arr, ga_sa e1, rfl, arr, rfl, _, f, Or.inl g7, fun _ => ?_, fun z => absurd (by have := (pl_nI_lt (m := 0) (by omega) (by omega)).mpr h0; exact this) z⟩
  show gw_J27_newLength K (nI L.length) (nI L.length + 1 - nI L.length) (nI L.length >>> ((1 : Int32) &&& 31)) k1 _
  rw [pl_add1]
  refine pl_newLength h0 (by omega) ?_
  generalize hN : L.length + max 1 (L.length / 2) = N
  have hN1 : L.length < N := by omega
  have hN2 : N ≤ 2 * L.length + 10 := by omega
  refine ⟨_, some arr, ga_sa e1, rfl, mc, ms, Nat.le_refl _, Nat.le_refl _, ?_⟩
  refine ⟨arr, rfl, _, f, Or.inl g7, mc, ms, Nat.le_refl _, Nat.le_refl _, ?_⟩
  refine ⟨fun z => absurd rfl z, fun _ => ⟨pl_nI_neg (by omega), by rw [pl_nI_nat (by omega)]; omega, hmc, by rw [pl_nI_nat (by omega)]; omega, fun q hq k2 e2 => ?_⟩⟩
  rw [pl_nI_nat (by omega)] at e2
  have hqa : q ≠ a := fun z => by rw [z, ga_sa e1] at hq; cases hq
  have hqr : q ≠ arr := fun z => by rw [z, g7] at hq; cases hq
  have hq0 : h q = none := by rw [← ga_so e1 hqa]; exact hq
  have g2 : k2 a = some (ga_O 13 [.int (c + 1), va_rf (some arr), .int (nI L.length)]) := by rw [ga_so e2 (Ne.symm hqa)]; exact ga_sa e1
  have g27 : k2 arr = some (ga_Aq 5 L.length f) := by rw [ga_so e2 (Ne.symm hqr)]; exact g7
  refine ⟨arr, rfl, _, f, Or.inl g27, fun r er => ?_⟩
  have hr : r = nI L.length := by
    rw [er, if_neg (fun z => absurd ((pl_nI_lt (by omega) (by omega)).mp z) (by omega))]
  subst hr
  refine ⟨q, rfl, _, f, N, fun _ => none, Or.inl g27, ga_sa e2, by decide, by decide, pl_nI_neg (by omega), ?_, ?_, fun i hi => ?_, fun k3 e3 => ?_⟩
  · rw [pl_nI_nat (by omega)]
    show 0 + L.length ≤ L.length
    omega
  · rw [pl_nI_nat (by omega)]
    show 0 + L.length ≤ N
    omega
  · rw [pl_nI_nat (by omega)] at hi
    rw [show (0 : Int32).toNatClampNeg + i = i by show 0 + i = i; omega, h4 i hi]
    exact pl_ok_new (pl_ok_set (hL i hi) h1 e1) hq e2
  have g3 : k3 a = some (ga_O 13 [.int (c + 1), va_rf (some arr), .int (nI L.length)]) := by rw [ga_so e3 (Ne.symm hqa)]; exact g2
  refine ⟨_, g3, Nat.le_of_ble_eq_true rfl, fun k4 e4 => ?_⟩
  have g4 : k4 q = some (ga_Aq 5 N (va_cpy f (fun _ => none) (0 : Int32).toNatClampNeg (0 : Int32).toNatClampNeg (nI L.length).toNatClampNeg)) := by rw [ga_so e4 hqa]; exact ga_sa e3
  refine ⟨q, rfl, N, _, g4, pl_in (by omega) hN1, pl_ok_set (pl_ok_arr (pl_ok_new (pl_ok_set hx h1 e1) hq e2) (ga_sa e2) e3) g3 e4, fun k5 e5 => ⟨_, by rw [ga_so e5 (Ne.symm hqa)]; exact ga_sa e4, Nat.le_of_ble_eq_true rfl, fun k6 e6 => ?_⟩⟩
  refine hp k6 q ⟨c + 1, N, _, ?_, by simp; omega, by omega, fun i hi => ?_, Or.inr ⟨by omega, hqa, by rw [ga_so e6 hqa, ga_sa e5]⟩⟩ hq0 (fun b hb hb2 => by rw [ga_so e6 hb, ga_so e5 hb2, ga_so e4 hb, ga_so e3 hb2, ga_so e2 hb2, ga_so e1 hb])
  · rw [ga_sa e6]
    simp
  · have hi' : i < L.length + 1 := by simpa using hi
    rw [pl_nI_nat (by omega)]
    by_cases q : i = L.length
    · subst q
      simp [va_up]
    · have hlt : i < L.length := by omega
      rw [va_up_ne _ _ q]
      have hc : va_cpy f (fun _ => none) (0 : Int32).toNatClampNeg (0 : Int32).toNatClampNeg L.length i = f i := by
        unfold va_cpy
        have z0 : (0 : Int32).toNatClampNeg = 0 := rfl
        rw [z0, if_pos ⟨Nat.zero_le _, by omega⟩]
        congr 1
        omega
      rw [hc, h4 i hlt]
      simp [List.getD, List.getElem?_append_left hlt]
/-- ArrayList.add -/
theorem pl_AL_add {K : ga_K} {h : ga_H} {a arr mc ms : Nat} {L : List (Option Nat)} {x : Option Nat} {post : Int32 → ga_H → Prop} (h0 : pl_AL K h a arr L) (hlen : L.length ≤ 1000) (hx : ga_ok K h "java/lang/Object" x) (hL : ∀ i : Nat, i < L.length → ga_ok K h "java/lang/Object" (L.getD i none)) (hmc : 1 ≤ mc) (hms : 2 * L.length + 10 ≤ ms)
    (hp : ∀ (h' : ga_H) (arr' : Nat), pl_AL K h' a arr' (L ++ [x]) → (arr' = arr ∨ h arr' = none) → (∀ b, b ≠ a → b ≠ arr' → h' b = h b) → post 1 h') : gw_J2_add K a x h mc ms post := by
  obtain ⟨c, n, f, h1, h2, h3, h4, h5⟩ := h0
  rcases h5 with ⟨rfl, rfl, h7⟩ | ⟨h5, h6, h7⟩
  · have : L = [] := List.eq_nil_of_length_eq_zero (by omega)
    subst this
    exact pl_AL_add1 h1 h7 hx hmc (by simpa using hms) (fun h' arr' z1 z2 z3 => hp h' arr' z1 (Or.inr z2) z3)
  · by_cases q : L.length < n
    · exact pl_AL_add0 h1 q h3 h4 h6 h7 hx (fun h' z1 z2 => hp h' arr z1 (Or.inl rfl) z2)
    · have : n = L.length := by omega
      subst this
      exact pl_AL_add2 h1 h5 hlen h4 h6 h7 hx hL hmc hms (fun h' arr' z1 z2 z3 => hp h' arr' z1 (Or.inr z2) z3)
theorem pl_AL_isEmpty {K : ga_K} {h : ga_H} {a arr : Nat} {L : List (Option Nat)} {post : Int32 → ga_H → Prop} (h0 : pl_AL K h a arr L) (hp0 : L ≠ [] → post 0 h) (hp1 : L = [] → post 1 h) : gw_J2_isEmpty K a h post := by
  obtain ⟨c, n, f, h1, h2, h3, -⟩ := h0
  refine ⟨_, _, h1, rfl, fun z => hp0 (fun e => z (by rw [e]; rfl)), fun z => hp1 ?_⟩
  have := congrArg Int32.toInt z
  rw [pl_nI_toInt (by omega)] at this
  have h9 : (0 : Int32).toInt = 0 := by decide
  rw [h9] at this
  exact List.eq_nil_of_length_eq_zero (by omega)
/-- the iterator it of the list a, before the place i -/
def pl_It (h : ga_H) (it a : Nat) (c : Int32) (i : Nat) : Prop := ∃ r : Int32, h it = some (ga_O 14 [.int (nI i), .int r, .int c, va_rf (some a)])
def pl_mod (h : ga_H) (a : Nat) (c : Int32) : Prop := ∃ fs : List Value, h a = some (ga_O 13 fs) ∧ fs[0]? = some (.int c)
theorem pl_AL.mod {K : ga_K} {h : ga_H} {a arr : Nat} {L : List (Option Nat)} (h0 : pl_AL K h a arr L) : ∃ c, pl_mod h a c := by
  obtain ⟨c, n, f, h1, -⟩ := h0
  exact ⟨c, _, h1, rfl⟩
theorem pl_It_init {K : ga_K} {h : ga_H} {a arr mc ms : Nat} {L : List (Option Nat)} {post : Option Nat → ga_H → Prop} (h0 : pl_AL K h a arr L) (hmc : 1 ≤ mc) (hms : 4 ≤ ms) (hp : ∀ (h' : ga_H) (it : Nat) (c : Int32), h it = none → pl_It h' it a c 0 → pl_mod h' a c → (∀ b, b ≠ it → h' b = h b) → post (some it) h') : gw_J2_iterator K a h mc ms post := by
  obtain ⟨c, n, f, h1, -⟩ := h0
  refine ⟨hmc, hms, fun q hq k1 e1 => ⟨_, ga_sa e1, Nat.le_of_ble_eq_true rfl, fun k2 e2 => ⟨_, ga_sa e2, Nat.le_of_ble_eq_true rfl, fun k3 e3 => ?_⟩⟩⟩
  have hqa : a ≠ q := fun z => by rw [← z, h1] at hq; cases hq
  have g3 : k3 a = some (ga_O 13 [.int c, va_rf (some arr), .int (nI L.length)]) := by rw [ga_so e3 hqa, ga_so e2 hqa, ga_so e1 hqa]; exact h1
  refine ⟨_, some a, ga_sa e3, rfl, a, rfl, _, _, g3, rfl, _, ga_sa e3, Nat.le_of_ble_eq_true rfl, fun k4 e4 => ?_⟩
  refine hp k4 q c hq ⟨-1, ?_⟩ ⟨_, by rw [ga_so e4 hqa]; exact g3, rfl⟩ (fun b hb => by rw [ga_so e4 hb, ga_so e3 hb, ga_so e2 hb, ga_so e1 hb])
  rw [ga_sa e4]
  rfl
theorem pl_It_hasNext {K : ga_K} {h : ga_H} {it a arr i : Nat} {c : Int32} {L : List (Option Nat)} {post : Int32 → ga_H → Prop} (h0 : pl_It h it a c i) (hA : pl_AL K h a arr L) (hi : i ≤ L.length) (hp0 : i = L.length → post 0 h) (hp1 : i < L.length → post 1 h) : gw_J16_hasNext K it h post := by
  obtain ⟨r, h0⟩ := h0
  obtain ⟨c2, n, f, h1, h2, h3, -⟩ := hA
  refine ⟨_, _, h0, rfl, _, some a, h0, rfl, a, rfl, _, _, h1, rfl, fun z => hp0 ?_, fun z => hp1 ?_⟩
  · have := congrArg Int32.toInt z
    rw [pl_nI_toInt (by omega), pl_nI_toInt (by omega)] at this
    omega
  · have : i ≠ L.length := fun e => z (by rw [e])
    omega
theorem pl_It_next {K : ga_K} {h : ga_H} {it a arr i mc ms : Nat} {c : Int32} {L : List (Option Nat)} {post : Option Nat → ga_H → Prop} (h0 : pl_It h it a c i) (hA : pl_AL K h a arr L) (hc : pl_mod h a c) (hi : i < L.length) (hp : ∀ h' : ga_H, pl_It h' it a c (i + 1) → (∀ b, b ≠ it → h' b = h b) → post (L.getD i none) h') : gw_J16_next K it h mc ms post := by
  obtain ⟨r, h0⟩ := h0
  obtain ⟨c2, n, f, h1, h2, h3, h4, h5⟩ := hA
  have hc2 : c2 = c := by
    obtain ⟨fs, z1, z2⟩ := hc
    rw [h1] at z1
    injection z1 with z1
    injection z1 with z1
    injection z1 with z1 z3
    subst z3
    injection z2 with z2
    injection z2
  subst hc2
  have hta : it ≠ a := fun z => by rw [z, h1] at h0; cases h0
  have hrd : ga_at K h arr (ga_Aq 5 n f) := by
    rcases h5 with ⟨rfl, -, h5⟩ | ⟨-, -, h5⟩
    · exact Or.inr h5
    · exact Or.inl h5
  have hra : arr = it → h arr = some (ga_Aq 5 n f) → False := fun z w => by rw [z, h0] at w; cases w
  refine ⟨mc, ms, Nat.le_refl _, Nat.le_refl _, _, Or.inl h0, _, some a, h0, rfl, a, rfl, _, _, h1, rfl, _, _, h0, rfl, fun _ => ?_, fun z => absurd rfl z⟩
  refine ⟨_, _, h0, rfl, _, some a, h0, rfl, a, rfl, _, _, h1, rfl, fun _ => ?_, fun z => absurd ((pl_nI_lt (by omega) (by omega)).mpr hi) z⟩
  refine ⟨_, some a, h0, rfl, a, rfl, _, some arr, h1, rfl, arr, rfl, n, f, hrd, fun _ => ?_, fun z => absurd ((pl_nI_lt (by omega) (by omega)).mpr (by omega)) z⟩
  refine ⟨_, h0, Nat.le_of_ble_eq_true rfl, fun k1 e1 => ⟨_, ga_sa e1, Nat.le_of_ble_eq_true rfl, fun k2 e2 => ?_⟩⟩
  refine ⟨arr, rfl, n, f, ?_, pl_in (by omega) (by omega), fun v ev => ?_⟩
  · rcases hrd with w | w
    · have : arr ≠ it := fun z => hra z w
      exact Or.inl (by rw [ga_so e2 this, ga_so e1 this]; exact w)
    · exact Or.inr w
  · rw [ev, pl_nI_nat (by omega), h4 i hi]
    refine hp k2 ⟨nI i, ?_⟩ (fun b hb => by rw [ga_so e2 hb, ga_so e1 hb])
    rw [ga_sa e2, pl_add1]
    rfl
theorem pl_AL_set {K : ga_K} {h : ga_H} {a arr i : Nat} {L : List (Option Nat)} {x : Option Nat} {post : Option Nat → ga_H → Prop} (h0 : pl_AL K h a arr L) (hi : i < L.length) (hx : ga_ok K h "java/lang/Object" x) (hp : ∀ h' : ga_H, pl_AL K h' a arr (L.set i x) → (∀ b, b ≠ arr → h' b = h b) → post (L.getD i none) h') : gw_J2_set K a (nI i) x h post := by
  obtain ⟨c, n, f, h1, h2, h3, h4, h5⟩ := h0
  have hi6 : i ≤ 1000000 := by omega
  rcases h5 with ⟨rfl, -, -⟩ | ⟨h5, h6, h7⟩
  · omega
  refine ⟨_, _, h1, rfl, ?_⟩
  refine ⟨fun z => absurd z (pl_nI_neg hi6), fun _ => ⟨fun _ => ?_, fun z => absurd ((pl_nI_lt hi6 (by omega)).mpr hi) z⟩⟩
  refine ⟨_, Or.inl h1, _, some arr, h1, rfl, arr, rfl, n, f, Or.inl h7, pl_in hi6 (by omega), fun v e => ?_⟩
  refine ⟨_, some arr, h1, rfl, arr, rfl, n, f, h7, pl_in hi6 (by omega), hx, fun k1 e1 => ?_⟩
  rw [e, pl_nI_nat hi6, h4 i hi]
  rw [pl_nI_nat hi6] at e1
  refine hp k1 ⟨c, n, va_up f i x, ?_, by simpa using h2, h3, fun j hj => ?_, Or.inr ⟨h5, h6, ga_sa e1⟩⟩ (fun b hb => ga_so e1 hb)
  · rw [ga_so e1 (Ne.symm h6), h1]
    simp
  · have hj' : j < L.length := by simpa using hj
    by_cases q : j = i
    · subst q
      simp [va_up, hj']
    · rw [va_up_ne _ _ q, h4 j hj']
      simp [List.getD, List.getElem?_set, Ne.symm q]
