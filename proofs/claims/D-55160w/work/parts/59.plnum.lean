/-! PLAIN LAWS: numbers -/
theorem pl_add (a b : Nat) : nI a + nI b = nI (a + b) := by
  unfold nI
  exact (Int32.ofNat_add a b).symm
theorem pl_add1 (a : Nat) : nI a + (1 : Int32) = nI (a + 1) := (nI_succ a).symm
theorem pl_sub {a b : Nat} (h : b ≤ a) : nI a - nI b = nI (a - b) := by
  unfold nI
  exact (Int32.ofNat_sub a b h).symm
theorem pl_shr1 {n : Nat} (h : n ≤ 1000000) : nI n >>> ((1 : Int32) &&& 31) = nI (n / 2) := by
  apply Int32.toInt_inj.mp
  rw [show ((1 : Int32) &&& 31) = 1 by decide, nI_toInt (by omega)]
  have e : (nI n >>> (1 : Int32)).toBitVec = (nI n).toBitVec.sshiftRight 1 := rfl
  show (nI n >>> (1 : Int32)).toBitVec.toInt = _
  rw [e, BitVec.toInt_sshiftRight]
  have e2 : (nI n).toBitVec.toInt = (n : Int) := nI_toInt (by omega)
  rw [e2, Int.shiftRight_eq_div_pow]
  omega
theorem pl_lt {a b : Nat} (ha : a ≤ 1000000) (hb : b ≤ 1000000) : nI a < nI b ↔ a < b := by
  rw [Int32.lt_iff_toInt_lt, nI_toInt (by omega), nI_toInt (by omega)]
  omega
theorem pl_newLength {K : ga_K} {h : ga_H} {n : Nat} {post : Int32 → ga_H → Prop} (h0 : 0 < n) (hn : n ≤ 100000) (hp : post (nI (n + max 1 (n / 2))) h) : gw_J27_newLength K (nI n) (nI (n + 1) - nI n) (nI n >>> ((1 : Int32) &&& 31)) h post := by
  rw [pl_sub (by omega), pl_shr1 (by omega), show n + 1 - n = 1 by omega]
  intro r e
  have hr : r = nI (max 1 (n / 2)) := by
    rw [e]
    by_cases c : nI 1 < nI (n / 2)
    · rw [if_pos c]
      have := (pl_lt (by omega) (by omega)).mp c
      rw [show max 1 (n / 2) = n / 2 by omega]
    · rw [if_neg c]
      have : ¬ 1 < n / 2 := fun z => c ((pl_lt (by omega) (by omega)).mpr z)
      rw [show max 1 (n / 2) = 1 by omega]
  rw [hr, pl_add]
  have hb : n + max 1 (n / 2) ≤ 1000000 := by omega
  refine ⟨fun z => ?_, fun _ => ⟨fun z => ?_, fun _ => hp⟩⟩
  · have := Int32.le_iff_toInt_le.mp z
    rw [nI_toInt (by omega)] at this
    have h9 : (0 : Int32).toInt = 0 := by decide
    rw [h9] at this
    omega
  · have := Int32.lt_iff_toInt_lt.mp z
    rw [nI_toInt (by omega)] at this
    have h9 : (2147483639 : Int32).toInt = 2147483639 := by decide
    rw [h9] at this
    omega
