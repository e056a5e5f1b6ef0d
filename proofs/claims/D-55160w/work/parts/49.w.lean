set_option maxRecDepth 100000
def gw_J40_ensureCapacity (K : ga_K) (p0 : Nat) (p1 : Int32) (h : ga_H) (mc ms : Nat) (post : ga_H → Prop) : Prop :=
  ∃ (fs_1 : List Value) (v_2 : Option Nat), h p0 = some (ga_O 25 fs_1) ∧ fs_1[0]? = some (va_rf v_2) ∧ (∃ a_3 : Nat, v_2 = some a_3 ∧ ∃ (n_4 : Nat) (f_5 : Nat → Int64), h a_3 = some (ga_Al n_4 f_5) ∧ ((p1 ≤ nI n_4 → (post h)) ∧ (¬ p1 ≤ nI n_4 → (∃ (fs_7 : List Value) (v_8 : Option Nat), h p0 = some (ga_O 25 fs_7) ∧ fs_7[0]? = some (va_rf v_8) ∧ (∃ a_9 : Nat, v_8 = some a_9 ∧ ∃ (n_10 : Nat) (f_11 : Nat → Int64), h a_9 = some (ga_Al n_10 f_11) ∧ (∀ r_12 : Int32, r_12 = (if ((2 : Int32) * (nI n_10)) < p1 then p1 else ((2 : Int32) * (nI n_10))) → (∃ (fs_13 : List Value) (v_14 : Option Nat), h p0 = some (ga_O 25 fs_13) ∧ fs_13[0]? = some (va_rf v_14) ∧ (∃ kc_15 ks_16 : Nat, kc_15 ≤ mc ∧ ks_16 ≤ ms ∧ gw_J13_copyOf_4 K v_14 r_12 h kc_15 ks_16 (fun (r_18 : Option Nat) (h_17 : ga_H) => ∃ fs_19 : List Value, h_17 p0 = some (ga_O 25 fs_19) ∧ 0 < fs_19.length ∧ ∀ h_20 : ga_H, h_20 = ga_set h_17 p0 (ga_O 25 (fs_19.set 0 (va_rf r_18))) → (∃ fs_21 : List Value, h_20 p0 = some (ga_O 25 fs_21) ∧ 2 < fs_21.length ∧ ∀ h_22 : ga_H, h_22 = ga_set h_20 p0 (ga_O 25 (fs_21.set 2 (.int (0 : Int32)))) → (post h_22)))))))))))
set_option maxHeartbeats 4000000 in
theorem gm_J40_ensureCapacity (l : Launch) (g : ga_G) (p0 : Nat) (p1 : Int32) (h : ga_H) (mc ms : Nat) (post : ga_H → Prop) (hw : gw_J40_ensureCapacity g.2.2 p0 p1 h mc ms post) : Met l yJ40_ensureCapacity (ws_ yJ40_ensureCapacity cJ40_ensureCapacity 3 none) ({ frames := 9, cells := mc, slots := ms, locals := 162 } : Room) (va_Pc [.ref p0, .int p1] (ga_B g h)) (va_Qv post (ga_E g) (ga_A g)) mc ms (ga_A g) := by
  refine ga_met (own := "java/util/BitSet") (nm := "ensureCapacity") (by decide) rfl rfl (by exact Nat.le_of_ble_eq_true rfl) (fun p e s m below meth c ls hC hI hl => ?_)
  have hl : lv_has ls 3 [(0, .ref p0), (1, .int p1)] := hl
  generalize ([.ref p0, .int p1] : List Value).toArray = args at hC ⊢
  obtain ⟨hx, hb, hml, hown, hts, hr, hlk, hnm⟩ := hC
  unfold gw_J40_ensureCapacity at hw
  obtain ⟨H, eH⟩ : ∃ z, z = s.heap := ⟨_, rfl⟩
  obtain ⟨locs, elo⟩ : ∃ z : List Loc, z = [] := ⟨_, rfl⟩
  rw [← eH, ← elo] at hI ⊢
  obtain ⟨cells, slots, hbc, hbs, e0, e1⟩ : ∃ a b : Nat, a + mc ≤ mc ∧ b + ms ≤ ms ∧ a = 0 ∧ b = 0 := ⟨0, 0, by omega, by omega, rfl, rfl⟩
  show W p l e ({ frames := 9, cells := mc, slots := ms, locals := 162 } : Room) s m args below meth c H locs 0 0 (MQ below (va_Qv post (ga_E g) (ga_A g)) args s mc ms (ga_A g)) (F0 m 0 ls [])
  suffices hgoal : W p l e ({ frames := 9, cells := mc, slots := ms, locals := 162 } : Room) s m args below meth c H locs cells slots (MQ below (va_Qv post (ga_E g) (ga_A g)) args s mc ms (ga_A g)) (F0 m 0 ls []) by rw [e0, e1] at hgoal; exact hgoal
  refine lv_aload_n hx hb dJ40_ensureCapacity_0 rfl (lv_at hl 0 rfl) ?_
  obtain ⟨fs_1, v_2, hq, hv, hw⟩ := hw
  refine ga_get (ci := 25) (T := TJ40) (v := va_rf v_2) hx hb hts hown hI in_J40 rfl 0 (by decide) q429 (fun _ z => z) (ga_at.h hq) hv dJ40_ensureCapacity_1 ?_
  obtain ⟨a_3, ea_3, hw⟩ := hw
  rewrite [ea_3]
  obtain ⟨n_4, f_5, hq, hw⟩ := hw
  refine ga_len hx hb hI (ga_at.h hq) rfl dJ40_ensureCapacity_4 ?_
  refine lv_iload_n hx hb dJ40_ensureCapacity_5 rfl (lv_at hl 1 rfl) ?_
  refine lv_icmp_ge (tgt := 38) hx hb dJ40_ensureCapacity_6 (by decide) (fun hc_6 => ?_) (fun hc_6 => ?_)
  · have hw := hw.1 hc_6
    exact ga_vret hx hb hr hlk hI hw (Nat.le_trans (Nat.le_add_right _ _) hbc) (Nat.le_trans (Nat.le_add_right _ _) hbs) dJ40_ensureCapacity_38
  · have hw := hw.2 hc_6
    refine lv_iconst (v := 2) hx hb dJ40_ensureCapacity_9 (by decide) ?_
    refine lv_aload_n hx hb dJ40_ensureCapacity_10 rfl (lv_at hl 0 rfl) ?_
    obtain ⟨fs_7, v_8, hq, hv, hw⟩ := hw
    refine ga_get (ci := 25) (T := TJ40) (v := va_rf v_8) hx hb hts hown hI in_J40 rfl 0 (by decide) q429 (fun _ z => z) (ga_at.h hq) hv dJ40_ensureCapacity_11 ?_
    obtain ⟨a_9, ea_9, hw⟩ := hw
    rewrite [ea_9]
    obtain ⟨n_10, f_11, hq, hw⟩ := hw
    refine ga_len hx hb hI (ga_at.h hq) rfl dJ40_ensureCapacity_14 ?_
    refine lv_imul hx hb dJ40_ensureCapacity_15 ?_
    refine lv_iload_n hx hb dJ40_ensureCapacity_16 rfl (lv_at hl 1 rfl) ?_
    refine va_mmax hx hb (hml.trans hl.1.symm) hown (hts _ q1208) (hts _ q899) (hts _ q119) (hts _ q900) (Nat.le_of_ble_eq_true rfl) (Nat.le_trans (Nat.add_le_add_right (ga_sum [] (Nat.le_of_ble_eq_true rfl)) _) (Nat.le_of_ble_eq_true rfl)) (Nat.le_trans (Nat.le_add_right _ _) hbc) (Nat.le_trans (Nat.le_add_right _ _) hbs) dJ40_ensureCapacity_17 ?_
    refine lv_topi (fun r_12 er_12 => ?_)
    have hw := hw r_12 er_12
    refine lv_istore_n (i := 2) (lv' := [(2, .int r_12), (0, .ref p0), (1, .int p1)]) hx hb dJ40_ensureCapacity_20 rfl hl (by decide) rfl (fun ls hl => ?_)
    refine lv_aload_n hx hb dJ40_ensureCapacity_21 rfl (lv_at hl 1 rfl) ?_
    refine lv_aload_n hx hb dJ40_ensureCapacity_22 rfl (lv_at hl 1 rfl) ?_
    obtain ⟨fs_13, v_14, hq, hv, hw⟩ := hw
    refine ga_get (ci := 25) (T := TJ40) (v := va_rf v_14) hx hb hts hown hI in_J40 rfl 0 (by decide) q429 (fun _ z => z) (ga_at.h hq) hv dJ40_ensureCapacity_23 ?_
    refine lv_iload_n hx hb dJ40_ensureCapacity_26 rfl (lv_at hl 0 rfl) ?_
    obtain ⟨kc_15, ks_16, hk1, hk2, hw⟩ := hw
    refine ga_callq (va_runS (As := [va_rf v_14, .int r_12]) (rest := [.ref p0]) ⟨hx, hb, hml, hown, hts⟩ (gm_J13_copyOf_4 l g v_14 r_12 h kc_15 ks_16 _ hw) (va_cwS 2 hts (lw_S q1209 q1210 q118 q1211) rfl rfl rfl hdG_J13_copyOf_4 ⟨Nat.le_of_ble_eq_true rfl, Nat.le_of_ble_eq_true rfl⟩) (ga_preS hI rfl) rfl rfl hl.1 rfl (ga_room (Nat.le_of_ble_eq_true rfl)) dJ40_ensureCapacity_27 ⟨Nat.le_trans (Nat.add_le_add_left hk1 _) hbc, Nat.le_trans (Nat.add_le_add_left hk2 _) hbs⟩) hI hbc hbs hk1 hk2 (fun r_18 h_17 H locs cells slots hw hI hbc hbs => ?_)
    obtain ⟨fs_19, hq, hk, hw⟩ := hw
    refine ga_put (ci := 25) (T := TJ40) (v := va_rf r_18) (ty := tyJ40 0) hx hb hts hown hI in_J40 rfl tyJ40 tyJ40_ok nmJ40 0 (by decide) q429 (fun _ z => z) rfl (tyJ40_ok 0 (by decide)) (ga_nq' _ _) (ga_fq' _ _) hq hk dJ40_ensureCapacity_30 (fun H locs hI => ?_)
    obtain ⟨h_20, eh_20⟩ : ∃ z, z = ga_set h_17 p0 (ga_O 25 (fs_19.set 0 (va_rf r_18))) := ⟨_, rfl⟩
    rw [← eh_20] at hI
    have hw := hw h_20 eh_20
    refine lv_aload_n hx hb dJ40_ensureCapacity_33 rfl (lv_at hl 1 rfl) ?_
    refine lv_iconst (v := 0) hx hb dJ40_ensureCapacity_34 (by decide) ?_
    obtain ⟨fs_21, hq, hk, hw⟩ := hw
    refine ga_put (ci := 25) (T := TJ40) (v := .int (0 : Int32)) (ty := tyJ40 2) hx hb hts hown hI in_J40 rfl tyJ40 tyJ40_ok nmJ40 2 (by decide) q431 (fun _ z => z) rfl (tyJ40_ok 2 (by decide)) rfl rfl hq hk dJ40_ensureCapacity_35 (fun H locs hI => ?_)
    obtain ⟨h_22, eh_22⟩ : ∃ z, z = ga_set h_20 p0 (ga_O 25 (fs_21.set 2 (.int (0 : Int32)))) := ⟨_, rfl⟩
    rw [← eh_22] at hI
    have hw := hw h_22 eh_22
    exact ga_vret hx hb hr hlk hI hw (Nat.le_trans (Nat.le_add_right _ _) hbc) (Nat.le_trans (Nat.le_add_right _ _) hbs) dJ40_ensureCapacity_38
theorem hdG_J40_ensureCapacity : yJ40_ensureCapacity.cls ≠ "java/lang/invoke/MethodHandle" ∧ yJ40_ensureCapacity.cls ≠ "java/lang/invoke/VarHandle" ∧ (parseMethodDescriptor yJ40_ensureCapacity.desc).map (fun d => d.parameters.length) = some 1 := by decide +kernel
def gw_J40_expandTo (K : ga_K) (p0 : Nat) (p1 : Int32) (h : ga_H) (mc ms : Nat) (post : ga_H → Prop) : Prop :=
  ∃ (fs_1 : List Value) (v_2 : Int32), h p0 = some (ga_O 25 fs_1) ∧ fs_1[1]? = some (.int v_2) ∧ ((p1 + (1 : Int32) ≤ v_2 → (post h)) ∧ (¬ p1 + (1 : Int32) ≤ v_2 → (∃ kc_4 ks_5 : Nat, kc_4 ≤ mc ∧ ks_5 ≤ ms ∧ ∃ fs_6 : List Value, ga_at K h p0 (ga_O 25 fs_6) ∧ gw_J40_ensureCapacity K p0 (p1 + (1 : Int32)) h kc_4 ks_5 (fun (h_7 : ga_H) => ∃ fs_8 : List Value, h_7 p0 = some (ga_O 25 fs_8) ∧ 1 < fs_8.length ∧ ∀ h_9 : ga_H, h_9 = ga_set h_7 p0 (ga_O 25 (fs_8.set 1 (.int (p1 + (1 : Int32))))) → (post h_9)))))
set_option maxHeartbeats 4000000 in
theorem gm_J40_expandTo (l : Launch) (g : ga_G) (p0 : Nat) (p1 : Int32) (h : ga_H) (mc ms : Nat) (post : ga_H → Prop) (hw : gw_J40_expandTo g.2.2 p0 p1 h mc ms post) : Met l yJ40_expandTo (ws_ yJ40_expandTo cJ40_expandTo 3 none) ({ frames := 10, cells := mc, slots := ms, locals := 184 } : Room) (va_Pc [.ref p0, .int p1] (ga_B g h)) (va_Qv post (ga_E g) (ga_A g)) mc ms (ga_A g) := by
  refine ga_met (own := "java/util/BitSet") (nm := "expandTo") (by decide) rfl rfl (by exact Nat.le_of_ble_eq_true rfl) (fun p e s m below meth c ls hC hI hl => ?_)
  have hl : lv_has ls 3 [(0, .ref p0), (1, .int p1)] := hl
  generalize ([.ref p0, .int p1] : List Value).toArray = args at hC ⊢
  obtain ⟨hx, hb, hml, hown, hts, hr, hlk, hnm⟩ := hC
  unfold gw_J40_expandTo at hw
  obtain ⟨H, eH⟩ : ∃ z, z = s.heap := ⟨_, rfl⟩
  obtain ⟨locs, elo⟩ : ∃ z : List Loc, z = [] := ⟨_, rfl⟩
  rw [← eH, ← elo] at hI ⊢
  obtain ⟨cells, slots, hbc, hbs, e0, e1⟩ : ∃ a b : Nat, a + mc ≤ mc ∧ b + ms ≤ ms ∧ a = 0 ∧ b = 0 := ⟨0, 0, by omega, by omega, rfl, rfl⟩
  show W p l e ({ frames := 10, cells := mc, slots := ms, locals := 184 } : Room) s m args below meth c H locs 0 0 (MQ below (va_Qv post (ga_E g) (ga_A g)) args s mc ms (ga_A g)) (F0 m 0 ls [])
  suffices hgoal : W p l e ({ frames := 10, cells := mc, slots := ms, locals := 184 } : Room) s m args below meth c H locs cells slots (MQ below (va_Qv post (ga_E g) (ga_A g)) args s mc ms (ga_A g)) (F0 m 0 ls []) by rw [e0, e1] at hgoal; exact hgoal
  refine lv_iload_n hx hb dJ40_expandTo_0 rfl (lv_at hl 1 rfl) ?_
  refine lv_iconst (v := 1) hx hb dJ40_expandTo_1 (by decide) ?_
  refine lv_iadd hx hb dJ40_expandTo_2 ?_
  refine lv_istore_n (i := 2) (lv' := [(2, .int (p1 + (1 : Int32))), (0, .ref p0), (1, .int p1)]) hx hb dJ40_expandTo_3 rfl hl (by decide) rfl (fun ls hl => ?_)
  refine lv_aload_n hx hb dJ40_expandTo_4 rfl (lv_at hl 1 rfl) ?_
  obtain ⟨fs_1, v_2, hq, hv, hw⟩ := hw
  refine ga_get (ci := 25) (T := TJ40) (v := .int v_2) hx hb hts hown hI in_J40 rfl 1 (by decide) q430 (fun _ z => z) (ga_at.h hq) hv dJ40_expandTo_5 ?_
  refine lv_iload_n hx hb dJ40_expandTo_8 rfl (lv_at hl 0 rfl) ?_
  refine lv_icmp_ge (tgt := 22) hx hb dJ40_expandTo_9 (by decide) (fun hc_3 => ?_) (fun hc_3 => ?_)
  · have hw := hw.1 hc_3
    exact ga_vret hx hb hr hlk hI hw (Nat.le_trans (Nat.le_add_right _ _) hbc) (Nat.le_trans (Nat.le_add_right _ _) hbs) dJ40_expandTo_22
  · have hw := hw.2 hc_3
    refine lv_aload_n hx hb dJ40_expandTo_12 rfl (lv_at hl 1 rfl) ?_
    refine lv_iload_n hx hb dJ40_expandTo_13 rfl (lv_at hl 0 rfl) ?_
    obtain ⟨kc_4, ks_5, hk1, hk2, hw⟩ := hw
    obtain ⟨fs_6, hq, hw⟩ := hw
    refine ga_callv (va_runV (As := [.int (p1 + (1 : Int32))]) (rest := []) ⟨hx, hb, hml, hown, hts⟩ (gm_J40_ensureCapacity l g p0 (p1 + (1 : Int32)) h kc_4 ks_5 _ hw) (cwV 1 hts (lw_V q1204 q1206 qs4 q155 q1207) rfl rfl rfl ⟨rfl, hdG_J40_ensureCapacity⟩ ⟨Nat.le_of_ble_eq_true rfl, Nat.le_of_ble_eq_true rfl⟩) (ga_preV hI hq rfl rfl) rfl rfl hl.1 rfl (ga_room (Nat.le_of_ble_eq_true rfl)) dJ40_expandTo_14 ⟨Nat.le_trans (Nat.add_le_add_left hk1 _) hbc, Nat.le_trans (Nat.add_le_add_left hk2 _) hbs⟩) hI hbc hbs hk1 hk2 (fun h_7 H locs cells slots hw hI hbc hbs => ?_)
    refine lv_aload_n hx hb dJ40_expandTo_17 rfl (lv_at hl 1 rfl) ?_
    refine lv_iload_n hx hb dJ40_expandTo_18 rfl (lv_at hl 0 rfl) ?_
    obtain ⟨fs_8, hq, hk, hw⟩ := hw
    refine ga_put (ci := 25) (T := TJ40) (v := .int (p1 + (1 : Int32))) (ty := tyJ40 1) hx hb hts hown hI in_J40 rfl tyJ40 tyJ40_ok nmJ40 1 (by decide) q430 (fun _ z => z) rfl (tyJ40_ok 1 (by decide)) rfl rfl hq hk dJ40_expandTo_19 (fun H locs hI => ?_)
    obtain ⟨h_9, eh_9⟩ : ∃ z, z = ga_set h_7 p0 (ga_O 25 (fs_8.set 1 (.int (p1 + (1 : Int32))))) := ⟨_, rfl⟩
    rw [← eh_9] at hI
    have hw := hw h_9 eh_9
    exact ga_vret hx hb hr hlk hI hw (Nat.le_trans (Nat.le_add_right _ _) hbc) (Nat.le_trans (Nat.le_add_right _ _) hbs) dJ40_expandTo_22
theorem hdG_J40_expandTo : yJ40_expandTo.cls ≠ "java/lang/invoke/MethodHandle" ∧ yJ40_expandTo.cls ≠ "java/lang/invoke/VarHandle" ∧ (parseMethodDescriptor yJ40_expandTo.desc).map (fun d => d.parameters.length) = some 1 := by decide +kernel
def gw_J40_checkInvariants_70 (K : ga_K) (post : ga_H → Prop) (p0 : Nat) (h : ga_H) (bc bs : Nat) : Prop :=
  post h
set_option maxHeartbeats 4000000 in
theorem gj_J40_checkInvariants_70 {p : Program} {l : Launch} {e : Env} {s : State} {m : MethodId} {args : Array Value} {below : List Frame} {meth : Method} {c : Code} {mc ms : Nat} {H : Heap} {locs : List Loc} {cells slots : Nat} {ls : Array Slot} (g : ga_G) (post : ga_H → Prop) (p0 : Nat) (h : ga_H) (bc bs : Nat) (hC : ga_Cx p s m args meth c cJ40_checkInvariants 1 none "java/util/BitSet" "checkInvariants") (hw : gw_J40_checkInvariants_70 g.2.2 post p0 h bc bs) (hI : ga_I g h s H locs) (hbc : cells + bc ≤ mc) (hbs : slots + bs ≤ ms) (hl : lv_has ls 1 [(0, .ref p0)]) : W p l e ({ frames := 8, cells := mc, slots := ms, locals := 140 } : Room) s m args below meth c H locs cells slots (MQ below (va_Qv post (ga_E g) (ga_A g)) args s mc ms (ga_A g)) (F0 m 70 ls []) := by
  obtain ⟨hx, hb, hml, hown, hts, hr, hlk, hnm⟩ := hC
  unfold gw_J40_checkInvariants_70 at hw
  refine ga_sget (v := .int (1 : Int32)) hx hb hts hown hI 7 rfl q1221 (fun _ z => z) dJ40_checkInvariants_70 ?_
  refine lv_if_ne (tgt := 110) hx hb dJ40_checkInvariants_73 (by decide) (fun _ => ?_) (fun hc_3 => by first | exact absurd hc_3 (by decide) | exact absurd (by decide) hc_3)
  exact ga_vret hx hb hr hlk hI hw (Nat.le_trans (Nat.le_add_right _ _) hbc) (Nat.le_trans (Nat.le_add_right _ _) hbs) dJ40_checkInvariants_110
def gw_J40_checkInvariants_37 (K : ga_K) (post : ga_H → Prop) (p0 : Nat) (h : ga_H) (bc bs : Nat) : Prop :=
  gw_J40_checkInvariants_70 K post p0 h bc bs
set_option maxHeartbeats 4000000 in
theorem gj_J40_checkInvariants_37 {p : Program} {l : Launch} {e : Env} {s : State} {m : MethodId} {args : Array Value} {below : List Frame} {meth : Method} {c : Code} {mc ms : Nat} {H : Heap} {locs : List Loc} {cells slots : Nat} {ls : Array Slot} (g : ga_G) (post : ga_H → Prop) (p0 : Nat) (h : ga_H) (bc bs : Nat) (hC : ga_Cx p s m args meth c cJ40_checkInvariants 1 none "java/util/BitSet" "checkInvariants") (hw : gw_J40_checkInvariants_37 g.2.2 post p0 h bc bs) (hI : ga_I g h s H locs) (hbc : cells + bc ≤ mc) (hbs : slots + bs ≤ ms) (hl : lv_has ls 1 [(0, .ref p0)]) : W p l e ({ frames := 8, cells := mc, slots := ms, locals := 140 } : Room) s m args below meth c H locs cells slots (MQ below (va_Qv post (ga_E g) (ga_A g)) args s mc ms (ga_A g)) (F0 m 37 ls []) := by
  obtain ⟨hx, hb, hml, hown, hts, hr, hlk, hnm⟩ := hC
  unfold gw_J40_checkInvariants_37 at hw
  refine ga_sget (v := .int (1 : Int32)) hx hb hts hown hI 7 rfl q1221 (fun _ z => z) dJ40_checkInvariants_37 ?_
  refine lv_if_ne (tgt := 70) hx hb dJ40_checkInvariants_40 (by decide) (fun _ => ?_) (fun hc_2 => by first | exact absurd hc_2 (by decide) | exact absurd (by decide) hc_2)
  exact gj_J40_checkInvariants_70 g post p0 h bc bs ⟨hx, hb, hml, hown, hts, hr, hlk, hnm⟩ hw hI hbc hbs (lv_sub hl [0] rfl)
def gw_J40_checkInvariants (K : ga_K) (p0 : Nat) (h : ga_H) (mc ms : Nat) (post : ga_H → Prop) : Prop :=
  gw_J40_checkInvariants_37 K post p0 h mc ms
set_option maxHeartbeats 4000000 in
theorem gm_J40_checkInvariants (l : Launch) (g : ga_G) (p0 : Nat) (h : ga_H) (mc ms : Nat) (post : ga_H → Prop) (hw : gw_J40_checkInvariants g.2.2 p0 h mc ms post) : Met l yJ40_checkInvariants (ws_ yJ40_checkInvariants cJ40_checkInvariants 1 none) ({ frames := 8, cells := mc, slots := ms, locals := 140 } : Room) (va_Pc [.ref p0] (ga_B g h)) (va_Qv post (ga_E g) (ga_A g)) mc ms (ga_A g) := by
  refine ga_met (own := "java/util/BitSet") (nm := "checkInvariants") (by decide) rfl rfl (by exact Nat.le_of_ble_eq_true rfl) (fun p e s m below meth c ls hC hI hl => ?_)
  have hl : lv_has ls 1 [(0, .ref p0)] := hl
  generalize ([.ref p0] : List Value).toArray = args at hC ⊢
  obtain ⟨hx, hb, hml, hown, hts, hr, hlk, hnm⟩ := hC
  unfold gw_J40_checkInvariants at hw
  obtain ⟨H, eH⟩ : ∃ z, z = s.heap := ⟨_, rfl⟩
  obtain ⟨locs, elo⟩ : ∃ z : List Loc, z = [] := ⟨_, rfl⟩
  rw [← eH, ← elo] at hI ⊢
  obtain ⟨cells, slots, hbc, hbs, e0, e1⟩ : ∃ a b : Nat, a + mc ≤ mc ∧ b + ms ≤ ms ∧ a = 0 ∧ b = 0 := ⟨0, 0, by omega, by omega, rfl, rfl⟩
  show W p l e ({ frames := 8, cells := mc, slots := ms, locals := 140 } : Room) s m args below meth c H locs 0 0 (MQ below (va_Qv post (ga_E g) (ga_A g)) args s mc ms (ga_A g)) (F0 m 0 ls [])
  suffices hgoal : W p l e ({ frames := 8, cells := mc, slots := ms, locals := 140 } : Room) s m args below meth c H locs cells slots (MQ below (va_Qv post (ga_E g) (ga_A g)) args s mc ms (ga_A g)) (F0 m 0 ls []) by rw [e0, e1] at hgoal; exact hgoal
  refine ga_sget (v := .int (1 : Int32)) hx hb hts hown hI 7 rfl q1221 (fun _ z => z) dJ40_checkInvariants_0 ?_
  refine lv_if_ne (tgt := 37) hx hb dJ40_checkInvariants_3 (by decide) (fun _ => ?_) (fun hc_1 => by first | exact absurd hc_1 (by decide) | exact absurd (by decide) hc_1)
  exact gj_J40_checkInvariants_37 g post p0 h mc ms ⟨hx, hb, hml, hown, hts, hr, hlk, hnm⟩ hw hI hbc hbs (lv_sub hl [0] rfl)
theorem hdG_J40_checkInvariants : yJ40_checkInvariants.cls ≠ "java/lang/invoke/MethodHandle" ∧ yJ40_checkInvariants.cls ≠ "java/lang/invoke/VarHandle" ∧ (parseMethodDescriptor yJ40_checkInvariants.desc).map (fun d => d.parameters.length) = some 0 := by decide +kernel
def gw_J40_set (K : ga_K) (p0 : Nat) (p1 : Int32) (h : ga_H) (mc ms : Nat) (post : ga_H → Prop) : Prop :=
  ((0 : Int32) ≤ p1 → (gw_J40_wordIndex p1 (fun (r_2 : Int32) => ∃ kc_3 ks_4 : Nat, kc_3 ≤ mc ∧ ks_4 ≤ ms ∧ ∃ fs_5 : List Value, ga_at K h p0 (ga_O 25 fs_5) ∧ gw_J40_expandTo K p0 r_2 h kc_3 ks_4 (fun (h_6 : ga_H) => ∃ (fs_7 : List Value) (v_8 : Option Nat), h_6 p0 = some (ga_O 25 fs_7) ∧ fs_7[0]? = some (va_rf v_8) ∧ (∃ a_9 : Nat, v_8 = some a_9 ∧ ∃ (n_10 : Nat) (f_11 : Nat → Int64), h_6 a_9 = some (ga_Al n_10 f_11) ∧ vp_in r_2 n_10 ∧ (∃ (n_12 : Nat) (f_13 : Nat → Int64), h_6 a_9 = some (ga_Al n_12 f_13) ∧ vp_in r_2 n_12 ∧ ∀ h_14 : ga_H, h_14 = ga_set h_6 a_9 (ga_Al n_12 (vp_updL f_13 r_2.toNatClampNeg ((f_11 r_2.toNatClampNeg) ||| ((1 : Int64) <<< (p1.toInt64 &&& 63))))) → (∃ kc_15 ks_16 : Nat, kc_15 ≤ (mc - kc_3) ∧ ks_16 ≤ (ms - ks_4) ∧ ∃ fs_17 : List Value, ga_at K h_14 p0 (ga_O 25 fs_17) ∧ gw_J40_checkInvariants K p0 h_14 kc_15 ks_16 (fun (h_18 : ga_H) => post h_18)))))))) ∧ (¬ (0 : Int32) ≤ p1 → False)
set_option maxHeartbeats 4000000 in
theorem gm_J40_set (l : Launch) (g : ga_G) (p0 : Nat) (p1 : Int32) (h : ga_H) (mc ms : Nat) (post : ga_H → Prop) (hw : gw_J40_set g.2.2 p0 p1 h mc ms post) : Met l yJ40_set (ws_ yJ40_set cJ40_set 3 none) ({ frames := 20, cells := mc, slots := ms, locals := 407 } : Room) (va_Pc [.ref p0, .int p1] (ga_B g h)) (va_Qv post (ga_E g) (ga_A g)) mc ms (ga_A g) := by
  refine ga_met (own := "java/util/BitSet") (nm := "set") (by decide) rfl rfl (by exact Nat.le_of_ble_eq_true rfl) (fun p e s m below meth c ls hC hI hl => ?_)
  have hl : lv_has ls 3 [(0, .ref p0), (1, .int p1)] := hl
  generalize ([.ref p0, .int p1] : List Value).toArray = args at hC ⊢
  obtain ⟨hx, hb, hml, hown, hts, hr, hlk, hnm⟩ := hC
  unfold gw_J40_set at hw
  obtain ⟨H, eH⟩ : ∃ z, z = s.heap := ⟨_, rfl⟩
  obtain ⟨locs, elo⟩ : ∃ z : List Loc, z = [] := ⟨_, rfl⟩
  rw [← eH, ← elo] at hI ⊢
  obtain ⟨cells, slots, hbc, hbs, e0, e1⟩ : ∃ a b : Nat, a + mc ≤ mc ∧ b + ms ≤ ms ∧ a = 0 ∧ b = 0 := ⟨0, 0, by omega, by omega, rfl, rfl⟩
  show W p l e ({ frames := 20, cells := mc, slots := ms, locals := 407 } : Room) s m args below meth c H locs 0 0 (MQ below (va_Qv post (ga_E g) (ga_A g)) args s mc ms (ga_A g)) (F0 m 0 ls [])
  suffices hgoal : W p l e ({ frames := 20, cells := mc, slots := ms, locals := 407 } : Room) s m args below meth c H locs cells slots (MQ below (va_Qv post (ga_E g) (ga_A g)) args s mc ms (ga_A g)) (F0 m 0 ls []) by rw [e0, e1] at hgoal; exact hgoal
  refine lv_iload_n hx hb dJ40_set_0 rfl (lv_at hl 1 rfl) ?_
  refine lv_if_ge (tgt := 31) hx hb dJ40_set_1 (by decide) (fun hc_1 => ?_) (fun hc_1 => ?_)
  · have hw := hw.1 hc_1
    refine lv_iload_n hx hb dJ40_set_31 rfl (lv_at hl 1 rfl) ?_
    refine ga_callS (As := [.int p1]) (rest := []) ⟨hx, hb, hml, hown, hts⟩ (gm_J40_wordIndex l p1 _ hw) (va_cwS 1 hts (lw_S q426 q427 q155 q428) rfl rfl rfl hdG_J40_wordIndex ⟨Nat.le_of_ble_eq_true rfl, Nat.le_of_ble_eq_true rfl⟩) rfl hl.1 rfl (ga_room (Nat.le_of_ble_eq_true rfl)) dJ40_set_32 hbc hbs (fun r_2 hw => ?_)
    refine lv_istore_n (i := 2) (lv' := [(2, .int r_2), (0, .ref p0), (1, .int p1)]) hx hb dJ40_set_35 rfl hl (by decide) rfl (fun ls hl => ?_)
    refine lv_aload_n hx hb dJ40_set_36 rfl (lv_at hl 1 rfl) ?_
    refine lv_iload_n hx hb dJ40_set_37 rfl (lv_at hl 0 rfl) ?_
    obtain ⟨kc_3, ks_4, hk1, hk2, hw⟩ := hw
    obtain ⟨fs_5, hq, hw⟩ := hw
    refine ga_callv (va_runV (As := [.int r_2]) (rest := []) ⟨hx, hb, hml, hown, hts⟩ (gm_J40_expandTo l g p0 r_2 h kc_3 ks_4 _ hw) (cwV 1 hts (lw_V q1200 q1202 qs3 q155 q1203) rfl rfl rfl ⟨rfl, hdG_J40_expandTo⟩ ⟨Nat.le_of_ble_eq_true rfl, Nat.le_of_ble_eq_true rfl⟩) (ga_preV hI hq rfl rfl) rfl rfl hl.1 rfl (ga_room (Nat.le_of_ble_eq_true rfl)) dJ40_set_38 ⟨Nat.le_trans (Nat.add_le_add_left hk1 _) hbc, Nat.le_trans (Nat.add_le_add_left hk2 _) hbs⟩) hI hbc hbs hk1 hk2 (fun h_6 H locs cells slots hw hI hbc hbs => ?_)
    refine lv_aload_n hx hb dJ40_set_41 rfl (lv_at hl 1 rfl) ?_
    obtain ⟨fs_7, v_8, hq, hv, hw⟩ := hw
    refine ga_get (ci := 25) (T := TJ40) (v := va_rf v_8) hx hb hts hown hI in_J40 rfl 0 (by decide) q429 (fun _ z => z) (ga_at.h hq) hv dJ40_set_42 ?_
    refine lv_iload_n hx hb dJ40_set_45 rfl (lv_at hl 0 rfl) ?_
    refine lv_dup2_11 hx hb dJ40_set_46 rfl (ga_rcat _) ?_
    obtain ⟨a_9, ea_9, hw⟩ := hw
    rewrite [ea_9]
    obtain ⟨n_10, f_11, hq, hi, hw⟩ := hw
    refine ga_ldl hx hb hI (ga_at.h hq) hi dJ40_set_47 ?_
    refine lv_lconst (v := 1) hx hb dJ40_set_48 (by decide) ?_
    refine lv_iload_n hx hb dJ40_set_49 rfl (lv_at hl 2 rfl) ?_
    refine lv_lshl (v := (1 : Int64) <<< (p1.toInt64 &&& 63)) hx hb dJ40_set_50 rfl ?_
    refine lv_lor hx hb dJ40_set_51 ?_
    obtain ⟨n_12, f_13, hq, hi, hw⟩ := hw
    refine ga_stl hx hb hI hq hi dJ40_set_52 (fun H locs hI => ?_)
    obtain ⟨h_14, eh_14⟩ : ∃ z, z = ga_set h_6 a_9 (ga_Al n_12 (vp_updL f_13 r_2.toNatClampNeg ((f_11 r_2.toNatClampNeg) ||| ((1 : Int64) <<< (p1.toInt64 &&& 63))))) := ⟨_, rfl⟩
    rw [← eh_14] at hI
    have hw := hw h_14 eh_14
    refine lv_aload_n hx hb dJ40_set_53 rfl (lv_at hl 1 rfl) ?_
    obtain ⟨kc_15, ks_16, hk1, hk2, hw⟩ := hw
    obtain ⟨fs_17, hq, hw⟩ := hw
    refine ga_callv (va_runV (As := []) (rest := []) ⟨hx, hb, hml, hown, hts⟩ (gm_J40_checkInvariants l g p0 h_14 kc_15 ks_16 _ hw) (cwV 0 hts (lw_V q1217 q1219 qs5 q155 q1220) rfl rfl rfl ⟨rfl, hdG_J40_checkInvariants⟩ ⟨Nat.le_of_ble_eq_true rfl, Nat.le_of_ble_eq_true rfl⟩) (ga_preV hI hq rfl rfl) rfl rfl hl.1 rfl (ga_room (Nat.le_of_ble_eq_true rfl)) dJ40_set_54 ⟨Nat.le_trans (Nat.add_le_add_left hk1 _) hbc, Nat.le_trans (Nat.add_le_add_left hk2 _) hbs⟩) hI hbc hbs hk1 hk2 (fun h_18 H locs cells slots hw hI hbc hbs => ?_)
    exact ga_vret hx hb hr hlk hI hw (Nat.le_trans (Nat.le_add_right _ _) hbc) (Nat.le_trans (Nat.le_add_right _ _) hbs) dJ40_set_57
  · have hw := hw.2 hc_1
    exact hw.elim
theorem hdG_J40_set : yJ40_set.cls ≠ "java/lang/invoke/MethodHandle" ∧ yJ40_set.cls ≠ "java/lang/invoke/VarHandle" ∧ (parseMethodDescriptor yJ40_set.desc).map (fun d => d.parameters.length) = some 1 := by decide +kernel
def gw_J40_nextSetBit (K : ga_K) (p0 : Nat) (p1 : Int32) (h : ga_H) (mc ms : Nat) (post : Int32 → ga_H → Prop) : Prop :=
  ((0 : Int32) ≤ p1 → (∃ kc_2 ks_3 : Nat, kc_2 ≤ mc ∧ ks_3 ≤ ms ∧ ∃ fs_4 : List Value, ga_at K h p0 (ga_O 25 fs_4) ∧ gw_J40_checkInvariants K p0 h kc_2 ks_3 (fun (h_5 : ga_H) => gw_J40_wordIndex p1 (fun (r_6 : Int32) => ∃ (fs_7 : List Value) (v_8 : Int32), h_5 p0 = some (ga_O 25 fs_7) ∧ fs_7[1]? = some (.int v_8) ∧ ((r_6 < v_8 → (∃ (fs_10 : List Value) (v_11 : Option Nat), h_5 p0 = some (ga_O 25 fs_10) ∧ fs_10[0]? = some (va_rf v_11) ∧ (∃ a_12 : Nat, v_11 = some a_12 ∧ ∃ (n_13 : Nat) (f_14 : Nat → Int64), h_5 a_12 = some (ga_Al n_13 f_14) ∧ vp_in r_6 n_13 ∧ (∃ (In_15 : Int32 → Int64 → Prop) (mu_15 : Int32 → Int64 → Nat), In_15 r_6 ((f_14 r_6.toNatClampNeg) &&& (((-1) : Int64) <<< (p1.toInt64 &&& 63))) ∧ ∀ (x2_15 : Int32) (x3_15 : Int64), In_15 x2_15 x3_15 → ((lg_cmp x3_15 (0 : Int64) = (0 : Int32) → (∃ (fs_17 : List Value) (v_18 : Int32), h_5 p0 = some (ga_O 25 fs_17) ∧ fs_17[1]? = some (.int v_18) ∧ ((¬ x2_15 + (1 : Int32) = v_18 → (∃ (fs_20 : List Value) (v_21 : Option Nat), h_5 p0 = some (ga_O 25 fs_20) ∧ fs_20[0]? = some (va_rf v_21) ∧ (∃ a_22 : Nat, v_21 = some a_22 ∧ ∃ (n_23 : Nat) (f_24 : Nat → Int64), h_5 a_22 = some (ga_Al n_23 f_24) ∧ vp_in (x2_15 + (1 : Int32)) n_23 ∧ (In_15 (x2_15 + (1 : Int32)) (f_24 (x2_15 + (1 : Int32)).toNatClampNeg) ∧ mu_15 (x2_15 + (1 : Int32)) (f_24 (x2_15 + (1 : Int32)).toNatClampNeg) < mu_15 x2_15 x3_15)))) ∧ (x2_15 + (1 : Int32) = v_18 → (post (-1 : Int32) h_5))))) ∧ (¬ lg_cmp x3_15 (0 : Int64) = (0 : Int32) → (gw_J34_numberOfTrailingZeros K x3_15 h_5 (fun (r_26 : Int32) (h_25 : ga_H) => post ((x2_15 * (64 : Int32)) + r_26) h_25)))))))) ∧ (¬ r_6 < v_8 → (post (-1 : Int32) h_5))))))) ∧ (¬ (0 : Int32) ≤ p1 → False)
set_option maxHeartbeats 4000000 in
theorem gm_J40_nextSetBit (l : Launch) (g : ga_G) (p0 : Nat) (p1 : Int32) (h : ga_H) (mc ms : Nat) (post : Int32 → ga_H → Prop) (hw : gw_J40_nextSetBit g.2.2 p0 p1 h mc ms post) : Met l yJ40_nextSetBit (ws_ yJ40_nextSetBit cJ40_nextSetBit 5 (some .int)) ({ frames := 20, cells := mc, slots := ms, locals := 407 } : Room) (va_Pc [.ref p0, .int p1] (ga_B g h)) (va_Qi post (ga_E g) (ga_A g)) mc ms (ga_A g) := by
  refine ga_met (own := "java/util/BitSet") (nm := "nextSetBit") (by decide) rfl rfl (by exact Nat.le_of_ble_eq_true rfl) (fun p e s m below meth c ls hC hI hl => ?_)
  have hl : lv_has ls 5 [(0, .ref p0), (1, .int p1)] := hl
  generalize ([.ref p0, .int p1] : List Value).toArray = args at hC ⊢
  obtain ⟨hx, hb, hml, hown, hts, hr, hlk, hnm⟩ := hC
  unfold gw_J40_nextSetBit at hw
  obtain ⟨H, eH⟩ : ∃ z, z = s.heap := ⟨_, rfl⟩
  obtain ⟨locs, elo⟩ : ∃ z : List Loc, z = [] := ⟨_, rfl⟩
  rw [← eH, ← elo] at hI ⊢
  obtain ⟨cells, slots, hbc, hbs, e0, e1⟩ : ∃ a b : Nat, a + mc ≤ mc ∧ b + ms ≤ ms ∧ a = 0 ∧ b = 0 := ⟨0, 0, by omega, by omega, rfl, rfl⟩
  show W p l e ({ frames := 20, cells := mc, slots := ms, locals := 407 } : Room) s m args below meth c H locs 0 0 (MQ below (va_Qi post (ga_E g) (ga_A g)) args s mc ms (ga_A g)) (F0 m 0 ls [])
  suffices hgoal : W p l e ({ frames := 20, cells := mc, slots := ms, locals := 407 } : Room) s m args below meth c H locs cells slots (MQ below (va_Qi post (ga_E g) (ga_A g)) args s mc ms (ga_A g)) (F0 m 0 ls []) by rw [e0, e1] at hgoal; exact hgoal
  refine lv_iload_n hx hb dJ40_nextSetBit_0 rfl (lv_at hl 1 rfl) ?_
  refine lv_if_ge (tgt := 31) hx hb dJ40_nextSetBit_1 (by decide) (fun hc_1 => ?_) (fun hc_1 => ?_)
  · have hw := hw.1 hc_1
    refine lv_aload_n hx hb dJ40_nextSetBit_31 rfl (lv_at hl 0 rfl) ?_
    obtain ⟨kc_2, ks_3, hk1, hk2, hw⟩ := hw
    obtain ⟨fs_4, hq, hw⟩ := hw
    refine ga_callv (va_runV (As := []) (rest := []) ⟨hx, hb, hml, hown, hts⟩ (gm_J40_checkInvariants l g p0 h kc_2 ks_3 _ hw) (cwV 0 hts (lw_V q1217 q1219 qs5 q155 q1220) rfl rfl rfl ⟨rfl, hdG_J40_checkInvariants⟩ ⟨Nat.le_of_ble_eq_true rfl, Nat.le_of_ble_eq_true rfl⟩) (ga_preV hI hq rfl rfl) rfl rfl hl.1 rfl (ga_room (Nat.le_of_ble_eq_true rfl)) dJ40_nextSetBit_32 ⟨Nat.le_trans (Nat.add_le_add_left hk1 _) hbc, Nat.le_trans (Nat.add_le_add_left hk2 _) hbs⟩) hI hbc hbs hk1 hk2 (fun h_5 H locs cells slots hw hI hbc hbs => ?_)
    refine lv_iload_n hx hb dJ40_nextSetBit_35 rfl (lv_at hl 1 rfl) ?_
    refine ga_callS (As := [.int p1]) (rest := []) ⟨hx, hb, hml, hown, hts⟩ (gm_J40_wordIndex l p1 _ hw) (va_cwS 1 hts (lw_S q426 q427 q155 q428) rfl rfl rfl hdG_J40_wordIndex ⟨Nat.le_of_ble_eq_true rfl, Nat.le_of_ble_eq_true rfl⟩) rfl hl.1 rfl (ga_room (Nat.le_of_ble_eq_true rfl)) dJ40_nextSetBit_36 hbc hbs (fun r_6 hw => ?_)
    refine lv_istore_n (i := 2) (lv' := [(2, .int r_6), (0, .ref p0), (1, .int p1)]) hx hb dJ40_nextSetBit_39 rfl hl (by decide) rfl (fun ls hl => ?_)
    refine lv_iload_n hx hb dJ40_nextSetBit_40 rfl (lv_at hl 0 rfl) ?_
    refine lv_aload_n hx hb dJ40_nextSetBit_41 rfl (lv_at hl 1 rfl) ?_
    obtain ⟨fs_7, v_8, hq, hv, hw⟩ := hw
    refine ga_get (ci := 25) (T := TJ40) (v := .int v_8) hx hb hts hown hI in_J40 rfl 1 (by decide) q430 (fun _ z => z) (ga_at.h hq) hv dJ40_nextSetBit_42 ?_
    refine lv_icmp_lt (tgt := 50) hx hb dJ40_nextSetBit_45 (by decide) (fun hc_9 => ?_) (fun hc_9 => ?_)
    · have hw := hw.1 hc_9
      refine lv_aload_n hx hb dJ40_nextSetBit_50 rfl (lv_at hl 1 rfl) ?_
      obtain ⟨fs_10, v_11, hq, hv, hw⟩ := hw
      refine ga_get (ci := 25) (T := TJ40) (v := va_rf v_11) hx hb hts hown hI in_J40 rfl 0 (by decide) q429 (fun _ z => z) (ga_at.h hq) hv dJ40_nextSetBit_51 ?_
      refine lv_iload_n hx hb dJ40_nextSetBit_54 rfl (lv_at hl 0 rfl) ?_
      obtain ⟨a_12, ea_12, hw⟩ := hw
      rewrite [ea_12]
      obtain ⟨n_13, f_14, hq, hi, hw⟩ := hw
      refine ga_ldl hx hb hI (ga_at.h hq) hi dJ40_nextSetBit_55 ?_
      refine lv_ldc2 (v := (-1)) hx hb hown (hts _ q1228) dJ40_nextSetBit_56 ?_
      refine lv_iload_n hx hb dJ40_nextSetBit_59 rfl (lv_at hl 2 rfl) ?_
      refine lv_lshl (v := ((-1) : Int64) <<< (p1.toInt64 &&& 63)) hx hb dJ40_nextSetBit_60 rfl ?_
      refine lv_land hx hb dJ40_nextSetBit_61 ?_
      refine lv_lstore_n (i := 3) (lv' := [(3, .long ((f_14 r_6.toNatClampNeg) &&& (((-1) : Int64) <<< (p1.toInt64 &&& 63)))), (2, .int r_6), (0, .ref p0), (1, .int p1)]) hx hb dJ40_nextSetBit_62 rfl hl (by decide) rfl (fun ls hl => ?_)
      obtain ⟨In_15, mu_15, h0_15, hw⟩ := hw
      have hL_15 : ∀ (n : Nat) (x2_15 : Int32) (x3_15 : Int64) (ls : Array Slot), mu_15 x2_15 x3_15 < n → In_15 x2_15 x3_15 → lv_has ls 5 [(0, .ref p0), (2, .int x2_15), (3, .long x3_15)] → W p l e ({ frames := 20, cells := mc, slots := ms, locals := 407 } : Room) s m args below meth c H locs cells slots (MQ below (va_Qi post (ga_E g) (ga_A g)) args s mc ms (ga_A g)) (F0 m 63 ls []) := by
        intro n
        induction n with
        | zero => intro x2_15 x3_15 ls hn _ _; exact absurd hn (Nat.not_lt_zero _)
        | succ n ih_15 =>
          intro x2_15 x3_15 ls hn_15 hi_15 hl
          have hw := hw x2_15 x3_15 hi_15
          refine lv_lload_n hx hb dJ40_nextSetBit_63 rfl (lv_at hl 2 rfl) ?_
          refine lv_lconst (v := 0) hx hb dJ40_nextSetBit_64 (by decide) ?_
          refine W.lcmp hx hb dJ40_nextSetBit_65 ?_
          refine lv_if_eq (tgt := 79) hx hb dJ40_nextSetBit_66 (by decide) (fun hc_16 => ?_) (fun hc_16 => ?_)
          · have hw := hw.1 hc_16
            refine lv_iinc (v := x2_15 + (1 : Int32)) (lv' := [(2, .int (x2_15 + (1 : Int32))), (0, .ref p0), (3, .long x3_15)]) hx hb dJ40_nextSetBit_79 hl (k := 1) rfl rfl (by decide) rfl (fun ls hl => ?_)
            refine lv_iload_n hx hb dJ40_nextSetBit_82 rfl (lv_at hl 0 rfl) ?_
            refine lv_aload_n hx hb dJ40_nextSetBit_83 rfl (lv_at hl 1 rfl) ?_
            obtain ⟨fs_17, v_18, hq, hv, hw⟩ := hw
            refine ga_get (ci := 25) (T := TJ40) (v := .int v_18) hx hb hts hown hI in_J40 rfl 1 (by decide) q430 (fun _ z => z) (ga_at.h hq) hv dJ40_nextSetBit_84 ?_
            refine lv_icmp_ne (tgt := 92) hx hb dJ40_nextSetBit_87 (by decide) (fun hc_19 => ?_) (fun hc_19 => ?_)
            · have hw := hw.1 hc_19
              refine lv_aload_n hx hb dJ40_nextSetBit_92 rfl (lv_at hl 1 rfl) ?_
              obtain ⟨fs_20, v_21, hq, hv, hw⟩ := hw
              refine ga_get (ci := 25) (T := TJ40) (v := va_rf v_21) hx hb hts hown hI in_J40 rfl 0 (by decide) q429 (fun _ z => z) (ga_at.h hq) hv dJ40_nextSetBit_93 ?_
              refine lv_iload_n hx hb dJ40_nextSetBit_96 rfl (lv_at hl 0 rfl) ?_
              obtain ⟨a_22, ea_22, hw⟩ := hw
              rewrite [ea_22]
              obtain ⟨n_23, f_24, hq, hi, hw⟩ := hw
              refine ga_ldl hx hb hI (ga_at.h hq) hi dJ40_nextSetBit_97 ?_
              refine lv_lstore_n (i := 3) (lv' := [(3, .long (f_24 (x2_15 + (1 : Int32)).toNatClampNeg)), (2, .int (x2_15 + (1 : Int32))), (0, .ref p0)]) hx hb dJ40_nextSetBit_98 rfl hl (by decide) rfl (fun ls hl => ?_)
              refine lv_goto (tgt := 63) hx hb dJ40_nextSetBit_99 (by decide) ?_
              exact ih_15 _ _ ls (Nat.lt_of_lt_of_le hw.2 (Nat.le_of_lt_succ hn_15)) hw.1 (lv_sub hl [2, 1, 0] rfl)
            · have hw := hw.2 hc_19
              refine lv_iconst (v := -1) hx hb dJ40_nextSetBit_90 (by decide) ?_
              exact ga_iret hx hb hr rfl hlk hI hw (Nat.le_trans (Nat.le_add_right _ _) hbc) (Nat.le_trans (Nat.le_add_right _ _) hbs) dJ40_nextSetBit_91
          · have hw := hw.2 hc_16
            refine lv_iload_n hx hb dJ40_nextSetBit_69 rfl (lv_at hl 1 rfl) ?_
            refine lv_bipush (v := 64) hx hb dJ40_nextSetBit_70 (by decide) ?_
            refine lv_imul hx hb dJ40_nextSetBit_72 ?_
            refine lv_lload_n hx hb dJ40_nextSetBit_73 rfl (lv_at hl 2 rfl) ?_
            refine ga_calli (va_runS (As := [.long x3_15]) (rest := [.int (x2_15 * (64 : Int32))]) ⟨hx, hb, hml, hown, hts⟩ (gm_J34_numberOfTrailingZeros l g x3_15 h_5 _ hw) (va_cwS 1 hts (lw_S q1229 q1230 q146 q1231) rfl rfl rfl hdG_J34_numberOfTrailingZeros ⟨Nat.le_of_ble_eq_true rfl, Nat.le_of_ble_eq_true rfl⟩) (ga_preS hI rfl) rfl rfl hl.1 rfl (ga_room (Nat.le_of_ble_eq_true rfl)) dJ40_nextSetBit_74 ⟨Nat.le_trans (Nat.add_le_add_left (Nat.zero_le _) _) hbc, Nat.le_trans (Nat.add_le_add_left (Nat.zero_le _) _) hbs⟩) hI hbc hbs (Nat.zero_le _) (Nat.zero_le _) (fun r_26 h_25 H locs cells slots hw hI hbc hbs => ?_)
            refine lv_iadd hx hb dJ40_nextSetBit_77 ?_
            exact ga_iret hx hb hr rfl hlk hI hw (Nat.le_trans (Nat.le_add_right _ _) hbc) (Nat.le_trans (Nat.le_add_right _ _) hbs) dJ40_nextSetBit_78
      exact hL_15 _ _ _ ls (Nat.lt_succ_self _) h0_15 (lv_sub hl [2, 1, 0] rfl)
    · have hw := hw.2 hc_9
      refine lv_iconst (v := -1) hx hb dJ40_nextSetBit_48 (by decide) ?_
      exact ga_iret hx hb hr rfl hlk hI hw (Nat.le_trans (Nat.le_add_right _ _) hbc) (Nat.le_trans (Nat.le_add_right _ _) hbs) dJ40_nextSetBit_49
  · have hw := hw.2 hc_1
    exact hw.elim
theorem hdG_J40_nextSetBit : yJ40_nextSetBit.cls ≠ "java/lang/invoke/MethodHandle" ∧ yJ40_nextSetBit.cls ≠ "java/lang/invoke/VarHandle" ∧ (parseMethodDescriptor yJ40_nextSetBit.desc).map (fun d => d.parameters.length) = some 1 := by decide +kernel
def gw_X1_papers (K : ga_K) (p0 : Nat) (h : ga_H) (mc ms : Nat) (post : Int32 → ga_H → Prop) : Prop :=
  1 ≤ mc ∧ 3 ≤ ms ∧ ∀ q_1 : Nat, h q_1 = none → ∀ h_2 : ga_H, h_2 = ga_set h q_1 (ga_O 25 [va_rf none, .int 0, .int 0]) → (∃ kc_3 ks_4 : Nat, kc_3 ≤ (mc - 1) ∧ ks_4 ≤ (ms - 3) ∧ gw_J40_init K q_1 (12 : Int32) h_2 kc_3 ks_4 (fun (h_5 : ga_H) => ∃ (fs_6 : List Value) (v_7 : Option Nat), h_5 p0 = some (ga_O 0 fs_6) ∧ fs_6[0]? = some (va_rf v_7) ∧ (∃ a_8 : Nat, v_7 = some a_8 ∧ ∃ kc_9 ks_10 : Nat, kc_9 ≤ ((mc - 1) - kc_3) ∧ ks_10 ≤ ((ms - 3) - ks_4) ∧ ∃ fs_11 : List Value, ga_at K h_5 a_8 (ga_O 1 fs_11) ∧ gw_X2_lying K a_8 h_5 kc_9 ks_10 (fun (r_13 : Option Nat) (h_12 : ga_H) => ∃ a_14 : Nat, r_13 = some a_14 ∧ ∃ kc_15 ks_16 : Nat, kc_15 ≤ (((mc - 1) - kc_3) - kc_9) ∧ ks_16 ≤ (((ms - 3) - ks_4) - ks_10) ∧ ∃ fs_17 : List Value, ga_at K h_12 a_14 (ga_O 13 fs_17) ∧ gw_J2_iterator K a_14 h_12 kc_15 ks_16 (fun (r_19 : Option Nat) (h_18 : ga_H) => ∃ (In_20 : ga_H → Nat → Nat → Prop) (mu_20 : ga_H → Nat → Nat → Nat), In_20 h_18 ((((mc - 1) - kc_3) - kc_9) - kc_15) ((((ms - 3) - ks_4) - ks_10) - ks_16) ∧ ∀ (h_20 : ga_H) (bc_20 : Nat) (bs_20 : Nat), In_20 h_20 bc_20 bs_20 → (∃ a_21 : Nat, r_19 = some a_21 ∧ ∃ fs_22 : List Value, ga_at K h_20 a_21 (ga_O 14 fs_22) ∧ gw_J16_hasNext K a_21 h_20 (fun (r_24 : Int32) (h_23 : ga_H) => (r_24 = (0 : Int32) → (∃ kc_26 ks_27 : Nat, kc_26 ≤ bc_20 ∧ ks_27 ≤ bs_20 ∧ ∃ fs_28 : List Value, ga_at K h_23 q_1 (ga_O 25 fs_28) ∧ gw_J40_nextSetBit K q_1 (0 : Int32) h_23 kc_26 ks_27 (fun (r_30 : Int32) (h_29 : ga_H) => ∃ (In_31 : Int32 → Int32 → ga_H → Nat → Nat → Prop) (mu_31 : Int32 → Int32 → ga_H → Nat → Nat → Nat), In_31 (0 : Int32) r_30 h_29 (bc_20 - kc_26) (bs_20 - ks_27) ∧ ∀ (x2_31 : Int32) (x3_31 : Int32) (h_31 : ga_H) (bc_31 : Nat) (bs_31 : Nat), In_31 x2_31 x3_31 h_31 bc_31 bs_31 → ((x3_31 < (0 : Int32) → (post x2_31 h_31)) ∧ (¬ x3_31 < (0 : Int32) → (∃ kc_33 ks_34 : Nat, kc_33 ≤ bc_31 ∧ ks_34 ≤ bs_31 ∧ ∃ fs_35 : List Value, ga_at K h_31 q_1 (ga_O 25 fs_35) ∧ gw_J40_nextSetBit K q_1 (x3_31 + (1 : Int32)) h_31 kc_33 ks_34 (fun (r_37 : Int32) (h_36 : ga_H) => In_31 (x2_31 ||| ((1 : Int32) <<< (x3_31 &&& 31))) r_37 h_36 (bc_31 - kc_33) (bs_31 - ks_34) ∧ mu_31 (x2_31 ||| ((1 : Int32) <<< (x3_31 &&& 31))) r_37 h_36 (bc_31 - kc_33) (bs_31 - ks_34) < mu_31 x2_31 x3_31 h_31 bc_31 bs_31))))))) ∧ (¬ r_24 = (0 : Int32) → (∃ a_38 : Nat, r_19 = some a_38 ∧ ∃ kc_39 ks_40 : Nat, kc_39 ≤ bc_20 ∧ ks_40 ≤ bs_20 ∧ ∃ fs_41 : List Value, ga_at K h_23 a_38 (ga_O 14 fs_41) ∧ gw_J16_next K a_38 h_23 kc_39 ks_40 (fun (r_43 : Option Nat) (h_42 : ga_H) => ga_ok K h_42 "PaperStore$Ream" r_43 ∧ (∃ a_44 : Nat, r_43 = some a_44 ∧ ∃ (fs_45 : List Value) (v_46 : Option Nat), h_42 a_44 = some (ga_O 4 fs_45) ∧ fs_45[1]? = some (va_rf v_46) ∧ (∃ a_47 : Nat, v_46 = some a_47 ∧ ∃ fs_48 : List Value, ga_at K h_42 a_47 (ga_O 9 fs_48) ∧ gw_X11_number K a_47 h_42 (fun (r_50 : Int32) (h_49 : ga_H) => ∃ kc_51 ks_52 : Nat, kc_51 ≤ (bc_20 - kc_39) ∧ ks_52 ≤ (bs_20 - ks_40) ∧ ∃ fs_53 : List Value, ga_at K h_49 q_1 (ga_O 25 fs_53) ∧ gw_J40_set K q_1 r_50 h_49 kc_51 ks_52 (fun (h_54 : ga_H) => In_20 h_54 ((bc_20 - kc_39) - kc_51) ((bs_20 - ks_40) - ks_52) ∧ mu_20 h_54 ((bc_20 - kc_39) - kc_51) ((bs_20 - ks_40) - ks_52) < mu_20 h_20 bc_20 bs_20))))))))))))))
set_option maxHeartbeats 4000000 in
theorem gm_X1_papers (l : Launch) (g : ga_G) (p0 : Nat) (h : ga_H) (mc ms : Nat) (post : Int32 → ga_H → Prop) (hw : gw_X1_papers g.2.2 p0 h mc ms post) : Met l yX1_papers (ws_ yX1_papers cX1_papers 4 (some .int)) ({ frames := 21, cells := mc, slots := ms, locals := 431 } : Room) (va_Pc [.ref p0] (ga_B g h)) (va_Qi post (ga_E g) (ga_A g)) mc ms (ga_A g) := by
  refine ga_met (own := "PaperStore") (nm := "papers") (by decide) rfl rfl (by exact Nat.le_of_ble_eq_true rfl) (fun p e s m below meth c ls hC hI hl => ?_)
  have hl : lv_has ls 4 [(0, .ref p0)] := hl
  generalize ([.ref p0] : List Value).toArray = args at hC ⊢
  obtain ⟨hx, hb, hml, hown, hts, hr, hlk, hnm⟩ := hC
  unfold gw_X1_papers at hw
  obtain ⟨H, eH⟩ : ∃ z, z = s.heap := ⟨_, rfl⟩
  obtain ⟨locs, elo⟩ : ∃ z : List Loc, z = [] := ⟨_, rfl⟩
  rw [← eH, ← elo] at hI ⊢
  obtain ⟨cells, slots, hbc, hbs, e0, e1⟩ : ∃ a b : Nat, a + mc ≤ mc ∧ b + ms ≤ ms ∧ a = 0 ∧ b = 0 := ⟨0, 0, by omega, by omega, rfl, rfl⟩
  show W p l e ({ frames := 21, cells := mc, slots := ms, locals := 431 } : Room) s m args below meth c H locs 0 0 (MQ below (va_Qi post (ga_E g) (ga_A g)) args s mc ms (ga_A g)) (F0 m 0 ls [])
  suffices hgoal : W p l e ({ frames := 21, cells := mc, slots := ms, locals := 431 } : Room) s m args below meth c H locs cells slots (MQ below (va_Qi post (ga_E g) (ga_A g)) args s mc ms (ga_A g)) (F0 m 0 ls []) by rw [e0, e1] at hgoal; exact hgoal
  refine ga_new (ci := 25) (T := TJ40) hx hb hts hown hI in_J40 rfl tyJ40 tyJ40_ok q416 q417 q155 [va_rf none, .int 0, .int 0] ga_df_J40 hbc hbs hw.1 hw.2.1 dX1_papers_0 (fun q_1 H cells slots hn_q_1 hI hbc hbs => ?_)
  obtain ⟨h_2, eh_2⟩ : ∃ z, z = ga_set h q_1 (ga_O 25 [va_rf none, .int 0, .int 0]) := ⟨_, rfl⟩
  rw [← eh_2] at hI
  have hw := hw.2.2 q_1 hn_q_1 h_2 eh_2
  refine lv_dup hx hb dX1_papers_3 rfl ?_
  refine lv_bipush (v := 12) hx hb dX1_papers_4 (by decide) ?_
  obtain ⟨kc_3, ks_4, hk1, hk2, hw⟩ := hw
  refine ga_callv (va_runI (As := [.int (12 : Int32)]) (rest := [.ref q_1]) ⟨hx, hb, hml, hown, hts⟩ (gm_J40_init l g q_1 (12 : Int32) h_2 kc_3 ks_4 _ hw) (cwI 1 hts (lw_meth q420) rfl rfl rfl (hts _ q155) (hts _ q418) (hts _ q419) rfl hdG_J40_init ⟨Nat.le_of_ble_eq_true rfl, Nat.le_of_ble_eq_true rfl⟩) (ga_preS hI rfl) rfl rfl hl.1 rfl (ga_room (Nat.le_of_ble_eq_true rfl)) dX1_papers_6 ⟨Nat.le_trans (Nat.add_le_add_left hk1 _) hbc, Nat.le_trans (Nat.add_le_add_left hk2 _) hbs⟩) hI hbc hbs hk1 hk2 (fun h_5 H locs cells slots hw hI hbc hbs => ?_)
  refine lv_astore_n (i := 1) (lv' := [(1, .ref q_1), (0, .ref p0)]) hx hb dX1_papers_9 rfl hl (by decide) rfl (fun ls hl => ?_)
  refine lv_aload_n hx hb dX1_papers_10 rfl (lv_at hl 1 rfl) ?_
  obtain ⟨fs_6, v_7, hq, hv, hw⟩ := hw
  refine ga_get (ci := 0) (T := TX1) (v := va_rf v_7) hx hb hts hown hI in_X1 rfl 0 (by decide) q387 (fun _ z => z) (ga_at.h hq) hv dX1_papers_11 ?_
  obtain ⟨a_8, ea_8, hw⟩ := hw
  rewrite [ea_8]
  obtain ⟨kc_9, ks_10, hk1, hk2, hw⟩ := hw
  obtain ⟨fs_11, hq, hw⟩ := hw
  refine ga_callq (va_runV (As := []) (rest := []) ⟨hx, hb, hml, hown, hts⟩ (gm_X2_lying l g a_8 h_5 kc_9 ks_10 _ hw) (cwV 0 hts (lw_V q440 q441 q442 q101 q443) rfl rfl rfl ⟨rfl, hdG_X2_lying⟩ ⟨Nat.le_of_ble_eq_true rfl, Nat.le_of_ble_eq_true rfl⟩) (ga_preV hI hq rfl rfl) rfl rfl hl.1 rfl (ga_room (Nat.le_of_ble_eq_true rfl)) dX1_papers_14 ⟨Nat.le_trans (Nat.add_le_add_left hk1 _) hbc, Nat.le_trans (Nat.add_le_add_left hk2 _) hbs⟩) hI hbc hbs hk1 hk2 (fun r_13 h_12 H locs cells slots hw hI hbc hbs => ?_)
  obtain ⟨a_14, ea_14, hw⟩ := hw
  rewrite [ea_14]
  obtain ⟨kc_15, ks_16, hk1, hk2, hw⟩ := hw
  obtain ⟨fs_17, hq, hw⟩ := hw
  refine ga_callFq (va_runF (As := []) (rest := []) (hI.2.1.1.1.1 13 _ rfl).2 ⟨hx, hb, hml, hown, hts⟩ (gm_J2_iterator l g a_14 h_12 kc_15 ks_16 _ hw) (va_cwF 0 hts (lw_app (List.forall_mem_cons.mpr ⟨q1168, List.forall_mem_cons.mpr ⟨q1171, List.forall_mem_cons.mpr ⟨q564, List.forall_mem_cons.mpr ⟨q104, fun _ h => absurd h List.not_mem_nil⟩⟩⟩⟩) (lw_meth q565)) rfl rfl rfl (hI.2.1.1.2.2 _ _ _ ⟨by decide +kernel, q1170, q1169, q1173, q1172, q836⟩) (by decide +kernel) ⟨Nat.le_of_ble_eq_true rfl, Nat.le_of_ble_eq_true rfl⟩) (ga_preV (C := "java/util/ArrayList") hI hq rfl rfl) rfl rfl hl.1 rfl (ga_room (Nat.le_of_ble_eq_true rfl)) dX1_papers_17 ⟨Nat.le_trans (Nat.add_le_add_left hk1 _) hbc, Nat.le_trans (Nat.add_le_add_left hk2 _) hbs⟩) hI hbc hbs hk1 hk2 (fun r_19 h_18 H locs cells slots hw hI hbc hbs => ?_)
  refine ga_astore_n (i := 2) (x := r_19) (lv' := [(2, va_rf r_19), (1, .ref q_1), (0, .ref p0)]) hx hb dX1_papers_22 rfl hl (by decide) rfl (fun ls hl => ?_)
  obtain ⟨In_20, mu_20, h0_20, hw⟩ := hw
  have hL_20 : ∀ (n : Nat) (h_20 : ga_H) (bc_20 : Nat) (bs_20 : Nat) (H : Heap) (locs : List Loc) (cells slots : Nat) (ls : Array Slot), mu_20 h_20 bc_20 bs_20 < n → In_20 h_20 bc_20 bs_20 → ga_I g h_20 s H locs → cells + bc_20 ≤ mc → slots + bs_20 ≤ ms → lv_has ls 4 [(1, va_rf (some q_1)), (2, va_rf r_19)] → W p l e ({ frames := 21, cells := mc, slots := ms, locals := 431 } : Room) s m args below meth c H locs cells slots (MQ below (va_Qi post (ga_E g) (ga_A g)) args s mc ms (ga_A g)) (F0 m 23 ls []) := by
    intro n
    induction n with
    | zero => intro h_20 bc_20 bs_20 H locs cells slots ls hn _ _ _ _ _; exact absurd hn (Nat.not_lt_zero _)
    | succ n ih_20 =>
      intro h_20 bc_20 bs_20 H locs cells slots ls hn_20 hi_20 hI hbc hbs hl
      have hw := hw h_20 bc_20 bs_20 hi_20
      refine ga_aload_n hx hb dX1_papers_23 rfl (lv_at hl 1 rfl) ?_
      obtain ⟨a_21, ea_21, hw⟩ := hw
      rewrite [ea_21]
      obtain ⟨fs_22, hq, hw⟩ := hw
      refine ga_callFi (va_runF (As := []) (rest := []) (hI.2.1.1.1.1 14 _ rfl).2 ⟨hx, hb, hml, hown, hts⟩ (gm_J16_hasNext l g a_21 h_20 _ hw) (va_cwF 0 hts (lw_app (List.forall_mem_cons.mpr ⟨q1180, List.forall_mem_cons.mpr ⟨q696, List.forall_mem_cons.mpr ⟨q698, List.forall_mem_cons.mpr ⟨q122, fun _ h => absurd h List.not_mem_nil⟩⟩⟩⟩) (lw_meth q700)) rfl rfl rfl (hI.2.1.1.2.2 _ _ _ ⟨by decide +kernel, q694, q693, q699, q697, q695⟩) (by decide +kernel) ⟨Nat.le_of_ble_eq_true rfl, Nat.le_of_ble_eq_true rfl⟩) (ga_preV (C := "java/util/ArrayList$Itr") hI hq rfl rfl) rfl rfl hl.1 rfl (ga_room (Nat.le_of_ble_eq_true rfl)) dX1_papers_24 ⟨Nat.le_trans (Nat.add_le_add_left (Nat.zero_le _) _) hbc, Nat.le_trans (Nat.add_le_add_left (Nat.zero_le _) _) hbs⟩) hI hbc hbs (Nat.zero_le _) (Nat.zero_le _) (fun r_24 h_23 H locs cells slots hw hI hbc hbs => ?_)
      refine lv_if_eq (tgt := 56) hx hb dX1_papers_29 (by decide) (fun hc_25 => ?_) (fun hc_25 => ?_)
      · have hw := hw.1 hc_25
        refine lv_iconst (v := 0) hx hb dX1_papers_56 (by decide) ?_
        refine lv_istore_n (i := 2) (lv' := [(2, .int (0 : Int32)), (1, va_rf (some q_1))]) hx hb dX1_papers_57 rfl hl (by decide) rfl (fun ls hl => ?_)
        refine ga_aload_n hx hb dX1_papers_58 rfl (lv_at hl 1 rfl) ?_
        refine lv_iconst (v := 0) hx hb dX1_papers_59 (by decide) ?_
        obtain ⟨kc_26, ks_27, hk1, hk2, hw⟩ := hw
        obtain ⟨fs_28, hq, hw⟩ := hw
        refine ga_calli (va_runV (As := [.int (0 : Int32)]) (rest := []) ⟨hx, hb, hml, hown, hts⟩ (gm_J40_nextSetBit l g q_1 (0 : Int32) h_23 kc_26 ks_27 _ hw) (cwV 1 hts (lw_V q1223 q1224 q1225 q155 q1226) rfl rfl rfl ⟨rfl, hdG_J40_nextSetBit⟩ ⟨Nat.le_of_ble_eq_true rfl, Nat.le_of_ble_eq_true rfl⟩) (ga_preV hI hq rfl rfl) rfl rfl hl.1 rfl (ga_room (Nat.le_of_ble_eq_true rfl)) dX1_papers_60 ⟨Nat.le_trans (Nat.add_le_add_left hk1 _) hbc, Nat.le_trans (Nat.add_le_add_left hk2 _) hbs⟩) hI hbc hbs hk1 hk2 (fun r_30 h_29 H locs cells slots hw hI hbc hbs => ?_)
        refine lv_istore_n (i := 3) (lv' := [(3, .int r_30), (2, .int (0 : Int32)), (1, va_rf (some q_1))]) hx hb dX1_papers_63 rfl hl (by decide) rfl (fun ls hl => ?_)
        obtain ⟨In_31, mu_31, h0_31, hw⟩ := hw
        have hL_31 : ∀ (n : Nat) (x2_31 : Int32) (x3_31 : Int32) (h_31 : ga_H) (bc_31 : Nat) (bs_31 : Nat) (H : Heap) (locs : List Loc) (cells slots : Nat) (ls : Array Slot), mu_31 x2_31 x3_31 h_31 bc_31 bs_31 < n → In_31 x2_31 x3_31 h_31 bc_31 bs_31 → ga_I g h_31 s H locs → cells + bc_31 ≤ mc → slots + bs_31 ≤ ms → lv_has ls 4 [(1, va_rf (some q_1)), (2, .int x2_31), (3, .int x3_31)] → W p l e ({ frames := 21, cells := mc, slots := ms, locals := 431 } : Room) s m args below meth c H locs cells slots (MQ below (va_Qi post (ga_E g) (ga_A g)) args s mc ms (ga_A g)) (F0 m 64 ls []) := by
          intro n
          induction n with
          | zero => intro x2_31 x3_31 h_31 bc_31 bs_31 H locs cells slots ls hn _ _ _ _ _; exact absurd hn (Nat.not_lt_zero _)
          | succ n ih_31 =>
            intro x2_31 x3_31 h_31 bc_31 bs_31 H locs cells slots ls hn_31 hi_31 hI hbc hbs hl
            have hw := hw x2_31 x3_31 h_31 bc_31 bs_31 hi_31
            refine lv_iload_n hx hb dX1_papers_64 rfl (lv_at hl 2 rfl) ?_
            refine lv_if_lt (tgt := 85) hx hb dX1_papers_65 (by decide) (fun hc_32 => ?_) (fun hc_32 => ?_)
            · have hw := hw.1 hc_32
              refine lv_iload_n hx hb dX1_papers_85 rfl (lv_at hl 1 rfl) ?_
              exact ga_iret hx hb hr rfl hlk hI hw (Nat.le_trans (Nat.le_add_right _ _) hbc) (Nat.le_trans (Nat.le_add_right _ _) hbs) dX1_papers_86
            · have hw := hw.2 hc_32
              refine lv_iload_n hx hb dX1_papers_68 rfl (lv_at hl 1 rfl) ?_
              refine lv_iconst (v := 1) hx hb dX1_papers_69 (by decide) ?_
              refine lv_iload_n hx hb dX1_papers_70 rfl (lv_at hl 2 rfl) ?_
              refine lv_ishl hx hb dX1_papers_71 ?_
              refine lv_ior hx hb dX1_papers_72 ?_
              refine lv_istore_n (i := 2) (lv' := [(2, .int (x2_31 ||| ((1 : Int32) <<< (x3_31 &&& 31)))), (1, va_rf (some q_1)), (3, .int x3_31)]) hx hb dX1_papers_73 rfl hl (by decide) rfl (fun ls hl => ?_)
              refine ga_aload_n hx hb dX1_papers_74 rfl (lv_at hl 1 rfl) ?_
              refine lv_iload_n hx hb dX1_papers_75 rfl (lv_at hl 2 rfl) ?_
              refine lv_iconst (v := 1) hx hb dX1_papers_76 (by decide) ?_
              refine lv_iadd hx hb dX1_papers_77 ?_
              obtain ⟨kc_33, ks_34, hk1, hk2, hw⟩ := hw
              obtain ⟨fs_35, hq, hw⟩ := hw
              refine ga_calli (va_runV (As := [.int (x3_31 + (1 : Int32))]) (rest := []) ⟨hx, hb, hml, hown, hts⟩ (gm_J40_nextSetBit l g q_1 (x3_31 + (1 : Int32)) h_31 kc_33 ks_34 _ hw) (cwV 1 hts (lw_V q1223 q1224 q1225 q155 q1226) rfl rfl rfl ⟨rfl, hdG_J40_nextSetBit⟩ ⟨Nat.le_of_ble_eq_true rfl, Nat.le_of_ble_eq_true rfl⟩) (ga_preV hI hq rfl rfl) rfl rfl hl.1 rfl (ga_room (Nat.le_of_ble_eq_true rfl)) dX1_papers_78 ⟨Nat.le_trans (Nat.add_le_add_left hk1 _) hbc, Nat.le_trans (Nat.add_le_add_left hk2 _) hbs⟩) hI hbc hbs hk1 hk2 (fun r_37 h_36 H locs cells slots hw hI hbc hbs => ?_)
              refine lv_istore_n (i := 3) (lv' := [(3, .int r_37), (2, .int (x2_31 ||| ((1 : Int32) <<< (x3_31 &&& 31)))), (1, va_rf (some q_1))]) hx hb dX1_papers_81 rfl hl (by decide) rfl (fun ls hl => ?_)
              refine lv_goto (tgt := 64) hx hb dX1_papers_82 (by decide) ?_
              exact ih_31 _ _ _ _ _ H locs cells slots ls (Nat.lt_of_lt_of_le hw.2 (Nat.le_of_lt_succ hn_31)) hw.1 hI hbc hbs (lv_sub hl [2, 1, 0] rfl)
        exact hL_31 _ _ _ _ _ _ H locs cells slots ls (Nat.lt_succ_self _) h0_31 hI hbc hbs (lv_sub hl [2, 1, 0] rfl)
      · have hw := hw.2 hc_25
        refine ga_aload_n hx hb dX1_papers_32 rfl (lv_at hl 1 rfl) ?_
        obtain ⟨a_38, ea_38, hw⟩ := hw
        rewrite [ea_38]
        obtain ⟨kc_39, ks_40, hk1, hk2, hw⟩ := hw
        obtain ⟨fs_41, hq, hw⟩ := hw
        refine ga_callFq (va_runF (As := []) (rest := []) (hI.2.1.1.1.1 14 _ rfl).2 ⟨hx, hb, hml, hown, hts⟩ (gm_J16_next l g a_38 h_23 kc_39 ks_40 _ hw) (va_cwF 0 hts (lw_app (List.forall_mem_cons.mpr ⟨q1182, List.forall_mem_cons.mpr ⟨q721, List.forall_mem_cons.mpr ⟨q723, List.forall_mem_cons.mpr ⟨q122, fun _ h => absurd h List.not_mem_nil⟩⟩⟩⟩) (lw_meth q725)) rfl rfl rfl (hI.2.1.1.2.2 _ _ _ ⟨by decide +kernel, q720, q719, q724, q722, q695⟩) (by decide +kernel) ⟨Nat.le_of_ble_eq_true rfl, Nat.le_of_ble_eq_true rfl⟩) (ga_preV (C := "java/util/ArrayList$Itr") hI hq rfl rfl) rfl rfl hl.1 rfl (ga_room (Nat.le_of_ble_eq_true rfl)) dX1_papers_33 ⟨Nat.le_trans (Nat.add_le_add_left hk1 _) hbc, Nat.le_trans (Nat.add_le_add_left hk2 _) hbs⟩) hI hbc hbs hk1 hk2 (fun r_43 h_42 H locs cells slots hw hI hbc hbs => ?_)
        refine ga_cast (x := r_43) hx hb hts hown hI q1183 hw.1 dX1_papers_38 ?_
        have hw := hw.2
        refine ga_astore_n (i := 3) (x := r_43) (lv' := [(3, va_rf r_43), (1, va_rf (some q_1)), (2, va_rf r_19)]) hx hb dX1_papers_41 rfl hl (by decide) (by simp [ga_rcat, ga_cat_r, ga_cat_i, ga_cat_f, ga_cat_l, ga_cat_d]) (fun ls hl => ?_)
        refine ga_aload_n hx hb dX1_papers_42 rfl (lv_at hl 1 rfl) ?_
        refine ga_aload_n hx hb dX1_papers_43 rfl (lv_at hl 0 rfl) ?_
        obtain ⟨a_44, ea_44, hw⟩ := hw
        rewrite [ea_44]
        obtain ⟨fs_45, v_46, hq, hv, hw⟩ := hw
        refine ga_getN (ci := 4) (T := TX6) (v := va_rf v_46) hx hb hts hown hI in_X6 rfl 1 (by decide) q1298 (fun _ z => z) (ga_at.h hq) hv dX1_papers_44 ?_
        obtain ⟨a_47, ea_47, hw⟩ := hw
        rewrite [ea_47]
        obtain ⟨fs_48, hq, hw⟩ := hw
        refine ga_calli (va_runV (As := []) (rest := [va_rf (some q_1)]) ⟨hx, hb, hml, hown, hts⟩ (gm_X11_number l g a_47 h_42 _ hw) (cwV 0 hts (lw_V q1184 q1185 q1186 q153 q1187) rfl rfl rfl ⟨rfl, hdG_X11_number⟩ ⟨Nat.le_of_ble_eq_true rfl, Nat.le_of_ble_eq_true rfl⟩) (ga_preV hI hq rfl rfl) rfl rfl hl.1 rfl (ga_room (Nat.le_of_ble_eq_true rfl)) dX1_papers_47 ⟨Nat.le_trans (Nat.add_le_add_left (Nat.zero_le _) _) hbc, Nat.le_trans (Nat.add_le_add_left (Nat.zero_le _) _) hbs⟩) hI hbc hbs (Nat.zero_le _) (Nat.zero_le _) (fun r_50 h_49 H locs cells slots hw hI hbc hbs => ?_)
        obtain ⟨kc_51, ks_52, hk1, hk2, hw⟩ := hw
        obtain ⟨fs_53, hq, hw⟩ := hw
        refine ga_callv (va_runV (As := [.int r_50]) (rest := []) ⟨hx, hb, hml, hown, hts⟩ (gm_J40_set l g q_1 r_50 h_49 kc_51 ks_52 _ hw) (cwV 1 hts (lw_V q1188 q1189 q1190 q155 q1191) rfl rfl rfl ⟨rfl, hdG_J40_set⟩ ⟨Nat.le_of_ble_eq_true rfl, Nat.le_of_ble_eq_true rfl⟩) (ga_preV hI hq rfl rfl) rfl rfl hl.1 rfl (ga_room (Nat.le_of_ble_eq_true rfl)) dX1_papers_50 ⟨Nat.le_trans (Nat.add_le_add_left hk1 _) hbc, Nat.le_trans (Nat.add_le_add_left hk2 _) hbs⟩) hI hbc hbs hk1 hk2 (fun h_54 H locs cells slots hw hI hbc hbs => ?_)
        refine lv_goto (tgt := 23) hx hb dX1_papers_53 (by decide) ?_
        exact ih_20 _ _ _ H locs cells slots ls (Nat.lt_of_lt_of_le hw.2 (Nat.le_of_lt_succ hn_20)) hw.1 hI hbc hbs (lv_sub hl [1, 2] rfl)
  exact hL_20 _ _ _ _ H locs cells slots ls (Nat.lt_succ_self _) h0_20 hI hbc hbs (lv_sub hl [1, 0] rfl)
theorem hdG_X1_papers : yX1_papers.cls ≠ "java/lang/invoke/MethodHandle" ∧ yX1_papers.cls ≠ "java/lang/invoke/VarHandle" ∧ (parseMethodDescriptor yX1_papers.desc).map (fun d => d.parameters.length) = some 0 := by decide +kernel
def gw_X1_quiresAgain (K : ga_K) (p0 : Nat) (h : ga_H) (mc ms : Nat) (post : Int32 → ga_H → Prop) : Prop :=
  ∃ (fs_1 : List Value) (v_2 : Option Nat), h p0 = some (ga_O 0 fs_1) ∧ fs_1[0]? = some (va_rf v_2) ∧ (∃ a_3 : Nat, v_2 = some a_3 ∧ ∃ (fs_4 : List Value) (v_5 : Option Nat), h a_3 = some (ga_O 1 fs_4) ∧ fs_4[4]? = some (va_rf v_5) ∧ (∃ a_6 : Nat, v_5 = some a_6 ∧ ∃ fs_7 : List Value, ga_at K h a_6 (ga_O 13 fs_7) ∧ gw_J2_size K a_6 h (fun (r_9 : Int32) (h_8 : ga_H) => ∃ (fs_10 : List Value) (v_11 : Option Nat), h_8 p0 = some (ga_O 0 fs_10) ∧ fs_10[0]? = some (va_rf v_11) ∧ (∃ a_12 : Nat, v_11 = some a_12 ∧ ∃ kc_13 ks_14 : Nat, kc_13 ≤ mc ∧ ks_14 ≤ ms ∧ ∃ fs_15 : List Value, ga_at K h_8 a_12 (ga_O 1 fs_15) ∧ gw_X2_onCarts K a_12 h_8 kc_13 ks_14 (fun (r_17 : Int32) (h_16 : ga_H) => ∃ (fs_18 : List Value) (v_19 : Option Nat), h_16 p0 = some (ga_O 0 fs_18) ∧ fs_18[0]? = some (va_rf v_19) ∧ (∃ a_20 : Nat, v_19 = some a_20 ∧ ∃ (fs_21 : List Value) (v_22 : Int32), h_16 a_20 = some (ga_O 1 fs_21) ∧ fs_21[6]? = some (.int v_22) ∧ (∃ (fs_23 : List Value) (v_24 : Option Nat), h_16 p0 = some (ga_O 0 fs_23) ∧ fs_23[0]? = some (va_rf v_24) ∧ (∃ a_25 : Nat, v_24 = some a_25 ∧ ∃ fs_26 : List Value, ga_at K h_16 a_25 (ga_O 1 fs_26) ∧ gw_X2_ofAisles K a_25 (0 : Int32) h_16 (fun (r_28 : Int32) (h_27 : ga_H) => ∃ (fs_29 : List Value) (v_30 : Option Nat), h_27 p0 = some (ga_O 0 fs_29) ∧ fs_29[0]? = some (va_rf v_30) ∧ (∃ a_31 : Nat, v_30 = some a_31 ∧ ∃ (fs_32 : List Value) (v_33 : Int32), h_27 a_31 = some (ga_O 1 fs_32) ∧ fs_32[7]? = some (.int v_33) ∧ (post ((((((20 : Int32) * r_9) - r_17) - v_22) - r_28) - v_33) h_27)))))))))))
set_option maxHeartbeats 4000000 in
theorem gm_X1_quiresAgain (l : Launch) (g : ga_G) (p0 : Nat) (h : ga_H) (mc ms : Nat) (post : Int32 → ga_H → Prop) (hw : gw_X1_quiresAgain g.2.2 p0 h mc ms post) : Met l yX1_quiresAgain (ws_ yX1_quiresAgain cX1_quiresAgain 1 (some .int)) ({ frames := 11, cells := mc, slots := ms, locals := 205 } : Room) (va_Pc [.ref p0] (ga_B g h)) (va_Qi post (ga_E g) (ga_A g)) mc ms (ga_A g) := by
  refine ga_met (own := "PaperStore") (nm := "quiresAgain") (by decide) rfl rfl (by exact Nat.le_of_ble_eq_true rfl) (fun p e s m below meth c ls hC hI hl => ?_)
  have hl : lv_has ls 1 [(0, .ref p0)] := hl
  generalize ([.ref p0] : List Value).toArray = args at hC ⊢
  obtain ⟨hx, hb, hml, hown, hts, hr, hlk, hnm⟩ := hC
  unfold gw_X1_quiresAgain at hw
  obtain ⟨H, eH⟩ : ∃ z, z = s.heap := ⟨_, rfl⟩
  obtain ⟨locs, elo⟩ : ∃ z : List Loc, z = [] := ⟨_, rfl⟩
  rw [← eH, ← elo] at hI ⊢
  obtain ⟨cells, slots, hbc, hbs, e0, e1⟩ : ∃ a b : Nat, a + mc ≤ mc ∧ b + ms ≤ ms ∧ a = 0 ∧ b = 0 := ⟨0, 0, by omega, by omega, rfl, rfl⟩
  show W p l e ({ frames := 11, cells := mc, slots := ms, locals := 205 } : Room) s m args below meth c H locs 0 0 (MQ below (va_Qi post (ga_E g) (ga_A g)) args s mc ms (ga_A g)) (F0 m 0 ls [])
  suffices hgoal : W p l e ({ frames := 11, cells := mc, slots := ms, locals := 205 } : Room) s m args below meth c H locs cells slots (MQ below (va_Qi post (ga_E g) (ga_A g)) args s mc ms (ga_A g)) (F0 m 0 ls []) by rw [e0, e1] at hgoal; exact hgoal
  refine lv_bipush (v := 20) hx hb dX1_quiresAgain_0 (by decide) ?_
  refine lv_aload_n hx hb dX1_quiresAgain_2 rfl (lv_at hl 0 rfl) ?_
  obtain ⟨fs_1, v_2, hq, hv, hw⟩ := hw
  refine ga_get (ci := 0) (T := TX1) (v := va_rf v_2) hx hb hts hown hI in_X1 rfl 0 (by decide) q387 (fun _ z => z) (ga_at.h hq) hv dX1_quiresAgain_3 ?_
  obtain ⟨a_3, ea_3, hw⟩ := hw
  rewrite [ea_3]
  obtain ⟨fs_4, v_5, hq, hv, hw⟩ := hw
  refine ga_getN (ci := 1) (T := TX2) (v := va_rf v_5) hx hb hts hown hI in_X2 rfl 4 (by decide) q319 (fun _ z => z) (ga_at.h hq) hv dX1_quiresAgain_6 ?_
  obtain ⟨a_6, ea_6, hw⟩ := hw
  rewrite [ea_6]
  obtain ⟨fs_7, hq, hw⟩ := hw
  refine ga_calli (va_runV (As := []) (rest := [.int (20 : Int32)]) ⟨hx, hb, hml, hown, hts⟩ (gm_J2_size l g a_6 h _ hw) (cwV 0 hts (lw_V q1240 q536 q4117 q104 q537) rfl rfl rfl ⟨rfl, hdG_J2_size⟩ ⟨Nat.le_of_ble_eq_true rfl, Nat.le_of_ble_eq_true rfl⟩) (ga_preV hI hq rfl rfl) rfl rfl hl.1 rfl (ga_room (Nat.le_of_ble_eq_true rfl)) dX1_quiresAgain_9 ⟨Nat.le_trans (Nat.add_le_add_left (Nat.zero_le _) _) hbc, Nat.le_trans (Nat.add_le_add_left (Nat.zero_le _) _) hbs⟩) hI hbc hbs (Nat.zero_le _) (Nat.zero_le _) (fun r_9 h_8 H locs cells slots hw hI hbc hbs => ?_)
  refine lv_imul hx hb dX1_quiresAgain_12 ?_
  refine lv_aload_n hx hb dX1_quiresAgain_13 rfl (lv_at hl 0 rfl) ?_
  obtain ⟨fs_10, v_11, hq, hv, hw⟩ := hw
  refine ga_get (ci := 0) (T := TX1) (v := va_rf v_11) hx hb hts hown hI in_X1 rfl 0 (by decide) q387 (fun _ z => z) (ga_at.h hq) hv dX1_quiresAgain_14 ?_
  obtain ⟨a_12, ea_12, hw⟩ := hw
  rewrite [ea_12]
  obtain ⟨kc_13, ks_14, hk1, hk2, hw⟩ := hw
  obtain ⟨fs_15, hq, hw⟩ := hw
  refine ga_calli (va_runV (As := []) (rest := [.int ((20 : Int32) * r_9)]) ⟨hx, hb, hml, hown, hts⟩ (gm_X2_onCarts l g a_12 h_8 kc_13 ks_14 _ hw) (cwV 0 hts (lw_V q1241 q1242 q1243 q101 q1244) rfl rfl rfl ⟨rfl, hdG_X2_onCarts⟩ ⟨Nat.le_of_ble_eq_true rfl, Nat.le_of_ble_eq_true rfl⟩) (ga_preV hI hq rfl rfl) rfl rfl hl.1 rfl (ga_room (Nat.le_of_ble_eq_true rfl)) dX1_quiresAgain_17 ⟨Nat.le_trans (Nat.add_le_add_left hk1 _) hbc, Nat.le_trans (Nat.add_le_add_left hk2 _) hbs⟩) hI hbc hbs hk1 hk2 (fun r_17 h_16 H locs cells slots hw hI hbc hbs => ?_)
  refine lv_isub hx hb dX1_quiresAgain_20 ?_
  refine lv_aload_n hx hb dX1_quiresAgain_21 rfl (lv_at hl 0 rfl) ?_
  obtain ⟨fs_18, v_19, hq, hv, hw⟩ := hw
  refine ga_get (ci := 0) (T := TX1) (v := va_rf v_19) hx hb hts hown hI in_X1 rfl 0 (by decide) q387 (fun _ z => z) (ga_at.h hq) hv dX1_quiresAgain_22 ?_
  obtain ⟨a_20, ea_20, hw⟩ := hw
  rewrite [ea_20]
  obtain ⟨fs_21, v_22, hq, hv, hw⟩ := hw
  refine ga_getN (ci := 1) (T := TX2) (v := .int v_22) hx hb hts hown hI in_X2 rfl 6 (by decide) q323 (fun _ z => z) (ga_at.h hq) hv dX1_quiresAgain_25 ?_
  refine lv_isub hx hb dX1_quiresAgain_28 ?_
  refine lv_aload_n hx hb dX1_quiresAgain_29 rfl (lv_at hl 0 rfl) ?_
  obtain ⟨fs_23, v_24, hq, hv, hw⟩ := hw
  refine ga_get (ci := 0) (T := TX1) (v := va_rf v_24) hx hb hts hown hI in_X1 rfl 0 (by decide) q387 (fun _ z => z) (ga_at.h hq) hv dX1_quiresAgain_30 ?_
  refine lv_iconst (v := 0) hx hb dX1_quiresAgain_33 (by decide) ?_
  obtain ⟨a_25, ea_25, hw⟩ := hw
  rewrite [ea_25]
  obtain ⟨fs_26, hq, hw⟩ := hw
  refine ga_calli (va_runV (As := [.int (0 : Int32)]) (rest := [.int ((((20 : Int32) * r_9) - r_17) - v_22)]) ⟨hx, hb, hml, hown, hts⟩ (gm_X2_ofAisles l g a_25 (0 : Int32) h_16 _ hw) (cwV 1 hts (lw_V q1251 q1252 q1253 q101 q1254) rfl rfl rfl ⟨rfl, hdG_X2_ofAisles⟩ ⟨Nat.le_of_ble_eq_true rfl, Nat.le_of_ble_eq_true rfl⟩) (ga_preV hI hq rfl rfl) rfl rfl hl.1 rfl (ga_room (Nat.le_of_ble_eq_true rfl)) dX1_quiresAgain_34 ⟨Nat.le_trans (Nat.add_le_add_left (Nat.zero_le _) _) hbc, Nat.le_trans (Nat.add_le_add_left (Nat.zero_le _) _) hbs⟩) hI hbc hbs (Nat.zero_le _) (Nat.zero_le _) (fun r_28 h_27 H locs cells slots hw hI hbc hbs => ?_)
  refine lv_isub hx hb dX1_quiresAgain_37 ?_
  refine lv_aload_n hx hb dX1_quiresAgain_38 rfl (lv_at hl 0 rfl) ?_
  obtain ⟨fs_29, v_30, hq, hv, hw⟩ := hw
  refine ga_get (ci := 0) (T := TX1) (v := va_rf v_30) hx hb hts hown hI in_X1 rfl 0 (by decide) q387 (fun _ z => z) (ga_at.h hq) hv dX1_quiresAgain_39 ?_
  obtain ⟨a_31, ea_31, hw⟩ := hw
  rewrite [ea_31]
  obtain ⟨fs_32, v_33, hq, hv, hw⟩ := hw
  refine ga_getN (ci := 1) (T := TX2) (v := .int v_33) hx hb hts hown hI in_X2 rfl 7 (by decide) q325 (fun _ z => z) (ga_at.h hq) hv dX1_quiresAgain_42 ?_
  refine lv_isub hx hb dX1_quiresAgain_45 ?_
  exact ga_iret hx hb hr rfl hlk hI hw (Nat.le_trans (Nat.le_add_right _ _) hbc) (Nat.le_trans (Nat.le_add_right _ _) hbs) dX1_quiresAgain_46
theorem hdG_X1_quiresAgain : yX1_quiresAgain.cls ≠ "java/lang/invoke/MethodHandle" ∧ yX1_quiresAgain.cls ≠ "java/lang/invoke/VarHandle" ∧ (parseMethodDescriptor yX1_quiresAgain.desc).map (fun d => d.parameters.length) = some 0 := by decide +kernel
def gw_X1_save (K : ga_K) (p0 : Nat) (h : ga_H) (mc ms : Nat) (post : Int32 → ga_H → Prop) : Prop :=
  ∃ (fs_1 : List Value) (v_2 : Option Nat), h p0 = some (ga_O 0 fs_1) ∧ fs_1[0]? = some (va_rf v_2) ∧ (∃ a_3 : Nat, v_2 = some a_3 ∧ ∃ kc_4 ks_5 : Nat, kc_4 ≤ mc ∧ ks_5 ≤ ms ∧ ∃ fs_6 : List Value, ga_at K h a_3 (ga_O 1 fs_6) ∧ gw_X2_copy K a_3 h kc_4 ks_5 (fun (r_8 : Option Nat) (h_7 : ga_H) => ∃ fs_9 : List Value, h_7 p0 = some (ga_O 0 fs_9) ∧ 1 < fs_9.length ∧ ∀ h_10 : ga_H, h_10 = ga_set h_7 p0 (ga_O 0 (fs_9.set 1 (va_rf r_8))) → (∃ (fs_11 : List Value) (v_12 : Option Nat), h_10 p0 = some (ga_O 0 fs_11) ∧ fs_11[1]? = some (va_rf v_12) ∧ (∃ a_13 : Nat, v_12 = some a_13 ∧ ∃ (fs_14 : List Value) (v_15 : Option Nat), h_10 a_13 = some (ga_O 1 fs_14) ∧ fs_14[4]? = some (va_rf v_15) ∧ (∃ a_16 : Nat, v_15 = some a_16 ∧ ∃ fs_17 : List Value, ga_at K h_10 a_16 (ga_O 13 fs_17) ∧ gw_J2_size K a_16 h_10 (fun (r_19 : Int32) (h_18 : ga_H) => post r_19 h_18))))))
set_option maxHeartbeats 4000000 in
theorem gm_X1_save (l : Launch) (g : ga_G) (p0 : Nat) (h : ga_H) (mc ms : Nat) (post : Int32 → ga_H → Prop) (hw : gw_X1_save g.2.2 p0 h mc ms post) : Met l yX1_save (ws_ yX1_save cX1_save 1 (some .int)) ({ frames := 17, cells := mc, slots := ms, locals := 1389 } : Room) (va_Pc [.ref p0] (ga_B g h)) (va_Qi post (ga_E g) (ga_A g)) mc ms (ga_A g) := by
  refine ga_met (own := "PaperStore") (nm := "save") (by decide) rfl rfl (by exact Nat.le_of_ble_eq_true rfl) (fun p e s m below meth c ls hC hI hl => ?_)
  have hl : lv_has ls 1 [(0, .ref p0)] := hl
  generalize ([.ref p0] : List Value).toArray = args at hC ⊢
  obtain ⟨hx, hb, hml, hown, hts, hr, hlk, hnm⟩ := hC
  unfold gw_X1_save at hw
  obtain ⟨H, eH⟩ : ∃ z, z = s.heap := ⟨_, rfl⟩
  obtain ⟨locs, elo⟩ : ∃ z : List Loc, z = [] := ⟨_, rfl⟩
  rw [← eH, ← elo] at hI ⊢
  obtain ⟨cells, slots, hbc, hbs, e0, e1⟩ : ∃ a b : Nat, a + mc ≤ mc ∧ b + ms ≤ ms ∧ a = 0 ∧ b = 0 := ⟨0, 0, by omega, by omega, rfl, rfl⟩
  show W p l e ({ frames := 17, cells := mc, slots := ms, locals := 1389 } : Room) s m args below meth c H locs 0 0 (MQ below (va_Qi post (ga_E g) (ga_A g)) args s mc ms (ga_A g)) (F0 m 0 ls [])
  suffices hgoal : W p l e ({ frames := 17, cells := mc, slots := ms, locals := 1389 } : Room) s m args below meth c H locs cells slots (MQ below (va_Qi post (ga_E g) (ga_A g)) args s mc ms (ga_A g)) (F0 m 0 ls []) by rw [e0, e1] at hgoal; exact hgoal
  refine lv_aload_n hx hb dX1_save_0 rfl (lv_at hl 0 rfl) ?_
  refine lv_aload_n hx hb dX1_save_1 rfl (lv_at hl 0 rfl) ?_
  obtain ⟨fs_1, v_2, hq, hv, hw⟩ := hw
  refine ga_get (ci := 0) (T := TX1) (v := va_rf v_2) hx hb hts hown hI in_X1 rfl 0 (by decide) q387 (fun _ z => z) (ga_at.h hq) hv dX1_save_2 ?_
  obtain ⟨a_3, ea_3, hw⟩ := hw
  rewrite [ea_3]
  obtain ⟨kc_4, ks_5, hk1, hk2, hw⟩ := hw
  obtain ⟨fs_6, hq, hw⟩ := hw
  refine ga_callq (va_runV (As := []) (rest := [.ref p0]) ⟨hx, hb, hml, hown, hts⟩ (gm_X2_copy l g a_3 h kc_4 ks_5 _ hw) (cwV 0 hts (lw_V q1259 q1260 q1261 q101 q1262) rfl rfl rfl ⟨rfl, hdG_X2_copy⟩ ⟨Nat.le_of_ble_eq_true rfl, Nat.le_of_ble_eq_true rfl⟩) (ga_preV hI hq rfl rfl) rfl rfl hl.1 rfl (ga_room (Nat.le_of_ble_eq_true rfl)) dX1_save_5 ⟨Nat.le_trans (Nat.add_le_add_left hk1 _) hbc, Nat.le_trans (Nat.add_le_add_left hk2 _) hbs⟩) hI hbc hbs hk1 hk2 (fun r_8 h_7 H locs cells slots hw hI hbc hbs => ?_)
  obtain ⟨fs_9, hq, hk, hw⟩ := hw
  refine ga_put (ci := 0) (T := TX1) (v := va_rf r_8) (ty := tyX1 1) hx hb hts hown hI in_X1 rfl tyX1 tyX1_ok nmX1 1 (by decide) q388 (fun _ z => z) rfl (tyX1_ok 1 (by decide)) (ga_nq _ _) (ga_fq _ _) hq hk dX1_save_8 (fun H locs hI => ?_)
  obtain ⟨h_10, eh_10⟩ : ∃ z, z = ga_set h_7 p0 (ga_O 0 (fs_9.set 1 (va_rf r_8))) := ⟨_, rfl⟩
  rw [← eh_10] at hI
  have hw := hw h_10 eh_10
  refine lv_aload_n hx hb dX1_save_11 rfl (lv_at hl 0 rfl) ?_
  obtain ⟨fs_11, v_12, hq, hv, hw⟩ := hw
  refine ga_get (ci := 0) (T := TX1) (v := va_rf v_12) hx hb hts hown hI in_X1 rfl 1 (by decide) q388 (fun _ z => z) (ga_at.h hq) hv dX1_save_12 ?_
  obtain ⟨a_13, ea_13, hw⟩ := hw
  rewrite [ea_13]
  obtain ⟨fs_14, v_15, hq, hv, hw⟩ := hw
  refine ga_getN (ci := 1) (T := TX2) (v := va_rf v_15) hx hb hts hown hI in_X2 rfl 4 (by decide) q319 (fun _ z => z) (ga_at.h hq) hv dX1_save_15 ?_
  obtain ⟨a_16, ea_16, hw⟩ := hw
  rewrite [ea_16]
  obtain ⟨fs_17, hq, hw⟩ := hw
  refine ga_calli (va_runV (As := []) (rest := []) ⟨hx, hb, hml, hown, hts⟩ (gm_J2_size l g a_16 h_10 _ hw) (cwV 0 hts (lw_V q1240 q536 q4117 q104 q537) rfl rfl rfl ⟨rfl, hdG_J2_size⟩ ⟨Nat.le_of_ble_eq_true rfl, Nat.le_of_ble_eq_true rfl⟩) (ga_preV hI hq rfl rfl) rfl rfl hl.1 rfl (ga_room (Nat.le_of_ble_eq_true rfl)) dX1_save_18 ⟨Nat.le_trans (Nat.add_le_add_left (Nat.zero_le _) _) hbc, Nat.le_trans (Nat.add_le_add_left (Nat.zero_le _) _) hbs⟩) hI hbc hbs (Nat.zero_le _) (Nat.zero_le _) (fun r_19 h_18 H locs cells slots hw hI hbc hbs => ?_)
  exact ga_iret hx hb hr rfl hlk hI hw (Nat.le_trans (Nat.le_add_right _ _) hbc) (Nat.le_trans (Nat.le_add_right _ _) hbs) dX1_save_21
theorem hdG_X1_save : yX1_save.cls ≠ "java/lang/invoke/MethodHandle" ∧ yX1_save.cls ≠ "java/lang/invoke/VarHandle" ∧ (parseMethodDescriptor yX1_save.desc).map (fun d => d.parameters.length) = some 0 := by decide +kernel
def gw_X5_init (K : ga_K) (p0 : Nat) (h : ga_H) (mc ms : Nat) (post : ga_H → Prop) : Prop :=
  1 ≤ mc ∧ 3810 ≤ ms ∧ ∀ q_1 : Nat, h q_1 = none → ∀ h_2 : ga_H, h_2 = ga_set h q_1 (ga_Ai 3810 (fun _ => 0)) → (∃ fs_3 : List Value, h_2 p0 = some (ga_O 30 fs_3) ∧ 1 < fs_3.length ∧ ∀ h_4 : ga_H, h_4 = ga_set h_2 p0 (ga_O 30 (fs_3.set 1 (va_rf (some q_1)))) → (1 ≤ (mc - 1) ∧ 100 ≤ (ms - 3810) ∧ ∀ q_5 : Nat, h_4 q_5 = none → ∀ h_6 : ga_H, h_6 = ga_set h_4 q_5 (ga_Ac 100 (fun _ => 0)) → (∃ fs_7 : List Value, h_6 p0 = some (ga_O 30 fs_7) ∧ 7 < fs_7.length ∧ ∀ h_8 : ga_H, h_8 = ga_set h_6 p0 (ga_O 30 (fs_7.set 7 (va_rf (some q_5)))) → (1 ≤ ((mc - 1) - 1) ∧ 60 ≤ ((ms - 3810) - 100) ∧ ∀ q_9 : Nat, h_8 q_9 = none → ∀ h_10 : ga_H, h_10 = ga_set h_8 q_9 (ga_Ac 60 (fun _ => 0)) → (∃ fs_11 : List Value, h_10 p0 = some (ga_O 30 fs_11) ∧ 9 < fs_11.length ∧ ∀ h_12 : ga_H, h_12 = ga_set h_10 p0 (ga_O 30 (fs_11.set 9 (va_rf (some q_9)))) → (∃ fs_13 : List Value, h_12 p0 = some (ga_O 30 fs_13) ∧ 13 < fs_13.length ∧ ∀ h_14 : ga_H, h_14 = ga_set h_12 p0 (ga_O 30 (fs_13.set 13 (.int (-1 : Int32)))) → (1 ≤ (((mc - 1) - 1) - 1) ∧ 244 ≤ (((ms - 3810) - 100) - 60) ∧ ∀ q_15 : Nat, h_14 q_15 = none → ∀ h_16 : ga_H, h_16 = ga_set h_14 q_15 (ga_Ai 244 (fun _ => 0)) → (∃ fs_17 : List Value, h_16 p0 = some (ga_O 30 fs_17) ∧ 14 < fs_17.length ∧ ∀ h_18 : ga_H, h_18 = ga_set h_16 p0 (ga_O 30 (fs_17.set 14 (va_rf (some q_15)))) → (∃ (In_19 : Int32 → ga_H → Prop) (mu_19 : Int32 → ga_H → Nat), In_19 (0 : Int32) h_18 ∧ ∀ (x1_19 : Int32) (h_19 : ga_H), In_19 x1_19 h_19 → (((5 : Int32) ≤ x1_19 → (post h_19)) ∧ (¬ (5 : Int32) ≤ x1_19 → (∃ (fs_21 : List Value) (v_22 : Option Nat), h_19 p0 = some (ga_O 30 fs_21) ∧ fs_21[1]? = some (va_rf v_22) ∧ (∃ a_23 : Nat, v_22 = some a_23 ∧ ∃ (n_24 : Nat) (f_25 : Nat → Int32), h_19 a_23 = some (ga_Ai n_24 f_25) ∧ vp_in (((249 : Int32) + ((5 : Int32) * x1_19)) + (0 : Int32)) n_24 ∧ ∀ h_26 : ga_H, h_26 = ga_set h_19 a_23 (ga_Ai n_24 (upd f_25 (((249 : Int32) + ((5 : Int32) * x1_19)) + (0 : Int32)).toNatClampNeg (4 : Int32))) → (In_19 (x1_19 + (1 : Int32)) h_26 ∧ mu_19 (x1_19 + (1 : Int32)) h_26 < mu_19 x1_19 h_19))))))))))))))
set_option maxHeartbeats 4000000 in
theorem gm_X5_init (l : Launch) (g : ga_G) (p0 : Nat) (h : ga_H) (mc ms : Nat) (post : ga_H → Prop) (hw : gw_X5_init g.2.2 p0 h mc ms post) : Met l yX5_init (ws_ yX5_init cX5_init 2 none) ({ frames := 8, cells := mc, slots := ms, locals := 140 } : Room) (va_Pc [.ref p0] (ga_B g h)) (va_Qv post (ga_E g) (ga_A g)) mc ms (ga_A g) := by
  refine ga_met (own := "PaperStoreModel") (nm := "<init>") (by decide) rfl rfl (by exact Nat.le_of_ble_eq_true rfl) (fun p e s m below meth c ls hC hI hl => ?_)
  have hl : lv_has ls 2 [(0, .ref p0)] := hl
  generalize ([.ref p0] : List Value).toArray = args at hC ⊢
  obtain ⟨hx, hb, hml, hown, hts, hr, hlk, hnm⟩ := hC
  unfold gw_X5_init at hw
  obtain ⟨H, eH⟩ : ∃ z, z = s.heap := ⟨_, rfl⟩
  obtain ⟨locs, elo⟩ : ∃ z : List Loc, z = [] := ⟨_, rfl⟩
  rw [← eH, ← elo] at hI ⊢
  obtain ⟨cells, slots, hbc, hbs, e0, e1⟩ : ∃ a b : Nat, a + mc ≤ mc ∧ b + ms ≤ ms ∧ a = 0 ∧ b = 0 := ⟨0, 0, by omega, by omega, rfl, rfl⟩
  show W p l e ({ frames := 8, cells := mc, slots := ms, locals := 140 } : Room) s m args below meth c H locs 0 0 (MQ below (va_Qv post (ga_E g) (ga_A g)) args s mc ms (ga_A g)) (F0 m 0 ls [])
  suffices hgoal : W p l e ({ frames := 8, cells := mc, slots := ms, locals := 140 } : Room) s m args below meth c H locs cells slots (MQ below (va_Qv post (ga_E g) (ga_A g)) args s mc ms (ga_A g)) (F0 m 0 ls []) by rw [e0, e1] at hgoal; exact hgoal
  refine lv_aload_n hx hb dX5_init_0 rfl (lv_at hl 0 rfl) ?_
  refine W.objInit hx hb hown (hts _ q3631) (hts _ q179) (hts _ q180) rfl (by rw [hml]; exact hl.1) rfl dX5_init_1 (Nat.le_of_ble_eq_true rfl) (by have := ga_sum [] (Nat.le_of_ble_eq_true rfl); exact Nat.le_trans (Nat.add_le_add_right (Nat.add_le_add_left this 0) 12) (Nat.le_of_ble_eq_true rfl)) ?_
  refine W.eq (g2 := F0 m 4 ls []) rfl ?_
  refine lv_aload_n hx hb dX5_init_4 rfl (lv_at hl 0 rfl) ?_
  refine lv_sipush (v := 3810) hx hb dX5_init_5 (by decide) ?_
  refine ga_nai hx hb hts hI q3568 hbc hbs (by decide) (N := 3810) rfl (Nat.le_of_ble_eq_true rfl) hw.1 hw.2.1 dX5_init_8 (fun q_1 H cells slots hn_q_1 hI hbc hbs => ?_)
  obtain ⟨h_2, eh_2⟩ : ∃ z, z = ga_set h q_1 (ga_Ai 3810 (fun _ => 0)) := ⟨_, rfl⟩
  rw [← eh_2] at hI
  have hw := hw.2.2 q_1 hn_q_1 h_2 eh_2
  obtain ⟨fs_3, hq, hk, hw⟩ := hw
  refine ga_putF (ci := 30) (T := TX5) (v := va_rf (some q_1)) (ty := tyX5 1) hx hb hts hown hI in_X5 rfl tyX5 tyX5_ok nmX5 1 (by decide) q3633 (fun _ z => z) rfl hnm rfl (tyX5_ok 1 (by decide)) (ga_nq' _ _) (ga_fq' _ _) hq hk dX5_init_10 (fun H locs hI => ?_)
  obtain ⟨h_4, eh_4⟩ : ∃ z, z = ga_set h_2 p0 (ga_O 30 (fs_3.set 1 (va_rf (some q_1)))) := ⟨_, rfl⟩
  rw [← eh_4] at hI
  have hw := hw h_4 eh_4
  refine lv_aload_n hx hb dX5_init_13 rfl (lv_at hl 0 rfl) ?_
  refine lv_bipush (v := 100) hx hb dX5_init_14 (by decide) ?_
  refine ga_nac hx hb hts hI q385 hbc hbs (by decide) (N := 100) rfl (Nat.le_of_ble_eq_true rfl) hw.1 hw.2.1 dX5_init_16 (fun q_5 H cells slots hn_q_5 hI hbc hbs => ?_)
  obtain ⟨h_6, eh_6⟩ : ∃ z, z = ga_set h_4 q_5 (ga_Ac 100 (fun _ => 0)) := ⟨_, rfl⟩
  rw [← eh_6] at hI
  have hw := hw.2.2 q_5 hn_q_5 h_6 eh_6
  obtain ⟨fs_7, hq, hk, hw⟩ := hw
  refine ga_putF (ci := 30) (T := TX5) (v := va_rf (some q_5)) (ty := tyX5 7) hx hb hts hown hI in_X5 rfl tyX5 tyX5_ok nmX5 7 (by decide) q3639 (fun _ z => z) rfl hnm rfl (tyX5_ok 7 (by decide)) (ga_nq' _ _) (ga_fq' _ _) hq hk dX5_init_18 (fun H locs hI => ?_)
  obtain ⟨h_8, eh_8⟩ : ∃ z, z = ga_set h_6 p0 (ga_O 30 (fs_7.set 7 (va_rf (some q_5)))) := ⟨_, rfl⟩
  rw [← eh_8] at hI
  have hw := hw h_8 eh_8
  refine lv_aload_n hx hb dX5_init_21 rfl (lv_at hl 0 rfl) ?_
  refine lv_bipush (v := 60) hx hb dX5_init_22 (by decide) ?_
  refine ga_nac hx hb hts hI q385 hbc hbs (by decide) (N := 60) rfl (Nat.le_of_ble_eq_true rfl) hw.1 hw.2.1 dX5_init_24 (fun q_9 H cells slots hn_q_9 hI hbc hbs => ?_)
  obtain ⟨h_10, eh_10⟩ : ∃ z, z = ga_set h_8 q_9 (ga_Ac 60 (fun _ => 0)) := ⟨_, rfl⟩
  rw [← eh_10] at hI
  have hw := hw.2.2 q_9 hn_q_9 h_10 eh_10
  obtain ⟨fs_11, hq, hk, hw⟩ := hw
  refine ga_putF (ci := 30) (T := TX5) (v := va_rf (some q_9)) (ty := tyX5 9) hx hb hts hown hI in_X5 rfl tyX5 tyX5_ok nmX5 9 (by decide) q3641 (fun _ z => z) rfl hnm rfl (tyX5_ok 9 (by decide)) (ga_nq' _ _) (ga_fq' _ _) hq hk dX5_init_26 (fun H locs hI => ?_)
  obtain ⟨h_12, eh_12⟩ : ∃ z, z = ga_set h_10 p0 (ga_O 30 (fs_11.set 9 (va_rf (some q_9)))) := ⟨_, rfl⟩
  rw [← eh_12] at hI
  have hw := hw h_12 eh_12
  refine lv_aload_n hx hb dX5_init_29 rfl (lv_at hl 0 rfl) ?_
  refine lv_iconst (v := -1) hx hb dX5_init_30 (by decide) ?_
  obtain ⟨fs_13, hq, hk, hw⟩ := hw
  refine ga_put (ci := 30) (T := TX5) (v := .int (-1 : Int32)) (ty := tyX5 13) hx hb hts hown hI in_X5 rfl tyX5 tyX5_ok nmX5 13 (by decide) q3645 (fun _ z => z) rfl (tyX5_ok 13 (by decide)) rfl rfl hq hk dX5_init_31 (fun H locs hI => ?_)
  obtain ⟨h_14, eh_14⟩ : ∃ z, z = ga_set h_12 p0 (ga_O 30 (fs_13.set 13 (.int (-1 : Int32)))) := ⟨_, rfl⟩
  rw [← eh_14] at hI
  have hw := hw h_14 eh_14
  refine lv_aload_n hx hb dX5_init_34 rfl (lv_at hl 0 rfl) ?_
  refine lv_sipush (v := 244) hx hb dX5_init_35 (by decide) ?_
  refine ga_nai hx hb hts hI q3568 hbc hbs (by decide) (N := 244) rfl (Nat.le_of_ble_eq_true rfl) hw.1 hw.2.1 dX5_init_38 (fun q_15 H cells slots hn_q_15 hI hbc hbs => ?_)
  obtain ⟨h_16, eh_16⟩ : ∃ z, z = ga_set h_14 q_15 (ga_Ai 244 (fun _ => 0)) := ⟨_, rfl⟩
  rw [← eh_16] at hI
  have hw := hw.2.2 q_15 hn_q_15 h_16 eh_16
  obtain ⟨fs_17, hq, hk, hw⟩ := hw
  refine ga_putF (ci := 30) (T := TX5) (v := va_rf (some q_15)) (ty := tyX5 14) hx hb hts hown hI in_X5 rfl tyX5 tyX5_ok nmX5 14 (by decide) q3646 (fun _ z => z) rfl hnm rfl (tyX5_ok 14 (by decide)) (ga_nq' _ _) (ga_fq' _ _) hq hk dX5_init_40 (fun H locs hI => ?_)
  obtain ⟨h_18, eh_18⟩ : ∃ z, z = ga_set h_16 p0 (ga_O 30 (fs_17.set 14 (va_rf (some q_15)))) := ⟨_, rfl⟩
  rw [← eh_18] at hI
  have hw := hw h_18 eh_18
  refine lv_iconst (v := 0) hx hb dX5_init_43 (by decide) ?_
  refine lv_istore_n (i := 1) (lv' := [(1, .int (0 : Int32)), (0, .ref p0)]) hx hb dX5_init_44 rfl hl (by decide) rfl (fun ls hl => ?_)
  obtain ⟨In_19, mu_19, h0_19, hw⟩ := hw
  have hL_19 : ∀ (n : Nat) (x1_19 : Int32) (h_19 : ga_H) (H : Heap) (locs : List Loc) (cells slots : Nat) (ls : Array Slot), mu_19 x1_19 h_19 < n → In_19 x1_19 h_19 → ga_I g h_19 s H locs → cells + ((((mc - 1) - 1) - 1) - 1) ≤ mc → slots + ((((ms - 3810) - 100) - 60) - 244) ≤ ms → lv_has ls 2 [(0, .ref p0), (1, .int x1_19)] → W p l e ({ frames := 8, cells := mc, slots := ms, locals := 140 } : Room) s m args below meth c H locs cells slots (MQ below (va_Qv post (ga_E g) (ga_A g)) args s mc ms (ga_A g)) (F0 m 45 ls []) := by
    intro n
    induction n with
    | zero => intro x1_19 h_19 H locs cells slots ls hn _ _ _ _ _; exact absurd hn (Nat.not_lt_zero _)
    | succ n ih_19 =>
      intro x1_19 h_19 H locs cells slots ls hn_19 hi_19 hI hbc hbs hl
      have hw := hw x1_19 h_19 hi_19
      refine lv_iload_n hx hb dX5_init_45 rfl (lv_at hl 1 rfl) ?_
      refine lv_iconst (v := 5) hx hb dX5_init_46 (by decide) ?_
      refine lv_icmp_ge (tgt := 71) hx hb dX5_init_47 (by decide) (fun hc_20 => ?_) (fun hc_20 => ?_)
      · have hw := hw.1 hc_20
        exact ga_vret hx hb hr hlk hI hw (Nat.le_trans (Nat.le_add_right _ _) hbc) (Nat.le_trans (Nat.le_add_right _ _) hbs) dX5_init_71
      · have hw := hw.2 hc_20
        refine lv_aload_n hx hb dX5_init_50 rfl (lv_at hl 0 rfl) ?_
        obtain ⟨fs_21, v_22, hq, hv, hw⟩ := hw
        refine ga_get (ci := 30) (T := TX5) (v := va_rf v_22) hx hb hts hown hI in_X5 rfl 1 (by decide) q3633 (fun _ z => z) (ga_at.h hq) hv dX5_init_51 ?_
        refine lv_sipush (v := 249) hx hb dX5_init_54 (by decide) ?_
        refine lv_iconst (v := 5) hx hb dX5_init_57 (by decide) ?_
        refine lv_iload_n hx hb dX5_init_58 rfl (lv_at hl 1 rfl) ?_
        refine lv_imul hx hb dX5_init_59 ?_
        refine lv_iadd hx hb dX5_init_60 ?_
        refine lv_iconst (v := 0) hx hb dX5_init_61 (by decide) ?_
        refine lv_iadd hx hb dX5_init_62 ?_
        refine lv_iconst (v := 4) hx hb dX5_init_63 (by decide) ?_
        obtain ⟨a_23, ea_23, hw⟩ := hw
        rewrite [ea_23]
        obtain ⟨n_24, f_25, hq, hi, hw⟩ := hw
        refine ga_sti hx hb hI hq hi dX5_init_64 (fun H locs hI => ?_)
        obtain ⟨h_26, eh_26⟩ : ∃ z, z = ga_set h_19 a_23 (ga_Ai n_24 (upd f_25 (((249 : Int32) + ((5 : Int32) * x1_19)) + (0 : Int32)).toNatClampNeg (4 : Int32))) := ⟨_, rfl⟩
        rw [← eh_26] at hI
        have hw := hw h_26 eh_26
        refine lv_iinc (v := x1_19 + (1 : Int32)) (lv' := [(1, .int (x1_19 + (1 : Int32))), (0, .ref p0)]) hx hb dX5_init_65 hl (k := 1) rfl rfl (by decide) rfl (fun ls hl => ?_)
        refine lv_goto (tgt := 45) hx hb dX5_init_68 (by decide) ?_
        exact ih_19 _ _ H locs cells slots ls (Nat.lt_of_lt_of_le hw.2 (Nat.le_of_lt_succ hn_19)) hw.1 hI hbc hbs (lv_sub hl [1, 0] rfl)
  exact hL_19 _ _ _ H locs cells slots ls (Nat.lt_succ_self _) h0_19 hI hbc hbs (lv_sub hl [1, 0] rfl)
theorem hdG_X5_init : yX5_init.cls ≠ "java/lang/invoke/MethodHandle" ∧ yX5_init.cls ≠ "java/lang/invoke/VarHandle" ∧ (parseMethodDescriptor yX5_init.desc).map (fun d => d.parameters.length) = some 0 := by decide +kernel
