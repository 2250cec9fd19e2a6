/-! a builder's numbers -/
theorem n_dec {a b : Nat} (h : b + 1 = a) : nI a + Int32.ofInt (-1) = nI b := by
  subst h
  show nI (b + 1) + (-1) = nI b
  rw [← nI_add, Int32.add_assoc, show nI 1 + (-1) = 0 by decide, Int32.add_zero]
theorem ng_T {w : Nat} (h : w < 2 ^ 31) : (-nI w).toInt = -(w : Int) := by
  rw [Int32.toInt_neg, nI_toInt h, Int.bmod_def]; split <;> omega
theorem ng_c {k : Nat} (hk : k < 2 ^ 31) : ∀ {x : Int32}, x = -nI k → x.toInt = -(k : Int) := fun h => by rw [h, ng_T hk]
theorem ng_nle {v k : Nat} (h : v < k) (hk : k < 2 ^ 31) : ¬ -nI v ≤ -nI k := by
  rw [Int32.le_iff_toInt_le, ng_T (by omega), ng_T hk]; omega
theorem ng_gt {v k : Nat} (h : v < k) (hk : k < 2 ^ 31) : -nI k < -nI v := by
  rw [Int32.lt_iff_toInt_lt, ng_T hk, ng_T (by omega)]; omega
theorem ng_ge {v k : Nat} (h : v ≤ k) (hk : k < 2 ^ 31) : -nI k ≤ -nI v := by
  rw [Int32.le_iff_toInt_le, ng_T hk, ng_T (by omega)]; omega
theorem ng_lt {w : Nat} (hw : w < 2 ^ 31) (h : -nI 100 < -nI w) : w < 100 := by
  rw [Int32.lt_iff_toInt_lt, ng_T hw, ng_T (by decide)] at h; omega
theorem ng_nlt {w : Nat} (hw : w < 2 ^ 31) (h : ¬ -nI 100 < -nI w) : 100 ≤ w := by
  rw [Int32.lt_iff_toInt_lt, ng_T hw, ng_T (by decide)] at h; omega
theorem ng_le9 {w : Nat} (hw : w < 2 ^ 31) (h : -nI 9 ≤ -nI w) : w ≤ 9 := by
  rw [Int32.le_iff_toInt_le, ng_T hw, ng_T (by decide)] at h; omega
theorem ng_gt9 {w : Nat} (hw : w < 2 ^ 31) (h : ¬ -nI 9 ≤ -nI w) : 9 < w := by
  rw [Int32.le_iff_toInt_le, ng_T hw, ng_T (by decide)] at h; omega
theorem ng_div {w : Nat} (hw : w < 2 ^ 31) : -nI w / nI 100 = -nI (w / 100) := by
  apply Int32.toInt_inj.mp
  have h1 : -nI w ≠ Int32.minValue := by
    intro c
    have := congrArg Int32.toInt c
    rw [ng_T hw] at this
    have h2 : Int32.minValue.toInt = -2147483648 := by decide
    omega
  rw [Int32.toInt_div_of_ne_left _ _ h1, ng_T hw, ng_T (by omega), nI_toInt (by decide), Int.neg_tdiv]
  rfl
theorem ng_rem {w : Nat} (hw : w < 2 ^ 31) : -nI (w / 100) * nI 100 - -nI w = nI (w % 100) := by
  rw [Int32.neg_mul, pk_mul, Int32.sub_neg, Int32.add_comm, ← Int32.sub_eq_add_neg, pk_sub (by omega)]
  congr 1
  omega
theorem lng_T {w : Nat} (h : w < 2 ^ 62) : (-lN w).toInt = -(w : Int) := Int64.toInt_neg_ofNat_of_le (by omega)
theorem lng_le {a b : Nat} (ha : a < 2 ^ 62) (hb : b < 2 ^ 62) : -lN a ≤ -lN b ↔ b ≤ a := by
  rw [Int64.le_iff_toInt_le, lng_T ha, lng_T hb]; omega
theorem l_nlt0 {v : Nat} (h : v < 2 ^ 62) : ¬ lN v < 0 := by
  rw [Int64.lt_iff_toInt_lt, pk_lT (by omega), Int64.toInt_zero]; omega
theorem l_ge0 {v : Nat} (h : v < 2 ^ 62) : 0 ≤ lN v := by
  rw [Int64.le_iff_toInt_le, pk_lT (by omega), Int64.toInt_zero]; omega
theorem l_gtm {v : Nat} (h : v < 2 ^ 31) : (-2147483648 : Int64) < -lN v := by
  rw [Int64.lt_iff_toInt_lt, lng_T (by omega), show (-2147483648 : Int64).toInt = -2147483648 by decide]; omega
theorem l_i32 {v : Nat} : (-lN v).toInt32 = -nI v := by
  rw [Int64.toInt32_neg]
  exact congrArg (fun z => -z) Int64.toInt32_ofNat'
theorem lng_mul {i : Nat} : (10 : Int64) * -lN (10 ^ i) = -lN (10 ^ (i + 1)) := by
  rw [Int64.mul_neg, show (10 : Int64) = lN 10 from rfl, lN_mul, Nat.pow_succ, Nat.mul_comm]
theorem p10 {i : Nat} (h : i ≤ 9) : 10 ^ i ≤ 1000000000 := Nat.le_trans (Nat.pow_le_pow_right (by decide) h) (by decide)
theorem dg_9 {v i : Nat} (hv : v < 1000000000) (h : 10 ^ i ≤ v) : i + 1 ≤ 9 := by
  apply Decidable.byContradiction
  intro c
  have h1 : (10 : Nat) ^ 9 ≤ 10 ^ i := Nat.pow_le_pow_right (by decide) (by omega)
  omega
theorem dg_1 {v : Nat} : 1 ≤ sb_dg v := by unfold sb_dg; repeat' split
                                           all_goals omega
theorem dg_D {v : Nat} (hv : v < 1000000000) : v < 10 ^ sb_dg v ∧ (sb_dg v = 1 ∨ 10 ^ (sb_dg v - 1) ≤ v) := by
  unfold sb_dg
  repeat' split
  all_goals simp only [Nat.reducePow, Nat.reduceSub, true_or, and_true]
  all_goals omega
theorem pow_inj {i j v : Nat} (h1 : i = 1 ∨ 10 ^ (i - 1) ≤ v) (h2 : v < 10 ^ j) (hi : 1 ≤ i) (hj : 1 ≤ j) : i ≤ j := by
  rcases h1 with rfl | h1
  · exact hj
  · apply Decidable.byContradiction
    intro c
    have : (10 : Nat) ^ j ≤ 10 ^ (i - 1) := Nat.pow_le_pow_right (by decide) (by omega)
    omega
theorem dg_eq {v i : Nat} (h1 : 1 ≤ i) (h2 : i = 1 ∨ 10 ^ (i - 1) ≤ v) (h3 : v < 10 ^ i) (hv : v < 1000000000) : i + 0 = sb_dg v := by
  obtain ⟨d1, d2⟩ := dg_D hv
  have a := pow_inj h2 d1 h1 dg_1
  have b := pow_inj d2 h3 dg_1 h1
  omega
/-- a row with the last k digits of v laid behind place n -/
def gB (f : Nat → Int32) (n v k : Nat) : Nat → Int32 := fun j => if n + sb_dg v ≤ j + k ∧ j < n + sb_dg v then sb_b (48 + v / 10 ^ (n + sb_dg v - 1 - j) % 10) else f j
theorem gB_0 {f : Nat → Int32} {n v : Nat} : gB f n v (2 * 0) = f := by
  funext j
  unfold gB
  rw [if_neg (by omega)]
theorem gB_s {f : Nat → Int32} {n v k i : Nat} {y : Int32} (hk : k < sb_dg v) (hi : i + k + 1 = n + sb_dg v) (hy : y = sb_b (48 + v / 10 ^ k % 10)) : upd (gB f n v k) i y = gB f n v (k + 1) := by
  subst hy
  funext j
  by_cases e : j = i
  · subst e
    rw [pk_us]
    unfold gB
    rw [if_pos (by omega), show n + sb_dg v - 1 - j = k by omega]
  · rw [pk_un e]
    unfold gB
    by_cases c : n + sb_dg v ≤ j + k ∧ j < n + sb_dg v
    · rw [if_pos c, if_pos (by omega)]
    · rw [if_neg c, if_neg (by omega)]
theorem gB_w {v t : Nat} : v / 10 ^ (2 * (t + 1)) = v / 10 ^ (2 * t) / 100 := by
  rw [Nat.div_div_eq_div_mul, show 2 * (t + 1) = 2 * t + 1 + 1 by omega, Nat.pow_succ, Nat.pow_succ, Nat.mul_assoc]
theorem gB_t {v t : Nat} : v / 10 ^ (2 * t + 1) = v / 10 ^ (2 * t) / 10 := by
  rw [Nat.div_div_eq_div_mul, Nat.pow_succ]
theorem gB_1 {v t : Nat} : (nI (48 + v / 10 ^ (2 * t) % 100 % 10)).toInt8.toInt32 = sb_b (48 + v / 10 ^ (2 * t) % 10) := by
  unfold sb_b
  rw [show v / 10 ^ (2 * t) % 100 % 10 = v / 10 ^ (2 * t) % 10 by omega]
theorem gB_2 {v t : Nat} : (nI (48 + v / 10 ^ (2 * t) % 100 / 10)).toInt8.toInt32 = sb_b (48 + v / 10 ^ (2 * t + 1) % 10) := by
  unfold sb_b
  rw [gB_t, show v / 10 ^ (2 * t) % 100 / 10 = v / 10 ^ (2 * t) / 10 % 10 by omega]
theorem gB_3 {v t : Nat} : (nI (48 + v / 10 ^ (2 * t) % 10)).toInt8.toInt32 = sb_b (48 + v / 10 ^ (2 * t) % 10) := rfl
theorem gB_4 {v t : Nat} (h : v / 10 ^ (2 * t) < 100) : (nI (48 + v / 10 ^ (2 * t) / 10)).toInt8.toInt32 = sb_b (48 + v / 10 ^ (2 * t + 1) % 10) := by
  unfold sb_b
  rw [gB_t]
  generalize v / 10 ^ (2 * t) = y at h ⊢
  rw [show y / 10 % 10 = y / 10 by omega]
theorem le_dv {v k a : Nat} (h : a ≤ v / 10 ^ k) : a * 10 ^ k ≤ v := (Nat.le_div_iff_mul_le (Nat.pow_pos (by decide))).mp h
theorem gB_more {v t : Nat} (hd1 : v < 10 ^ sb_dg v) (hd2 : sb_dg v = 1 ∨ 10 ^ (sb_dg v - 1) ≤ v) (h : 100 ≤ v / 10 ^ (2 * t)) : 2 * (t + 1) < sb_dg v := by
  have h1 := le_dv h
  have h2 : 100 * 10 ^ (2 * t) = 10 ^ (2 * t + 2) := by rw [show 2 * t + 2 = 2 * t + 1 + 1 by omega, Nat.pow_succ, Nat.pow_succ]; omega
  apply Decidable.byContradiction
  intro c
  have h3 : (10 : Nat) ^ sb_dg v ≤ 10 ^ (2 * t + 2) := Nat.pow_le_pow_right (by decide) (by omega)
  omega
theorem gB_lt {v k a : Nat} (h : v / 10 ^ k < 10 ^ a) : v < 10 ^ (k + a) := by
  have := (Nat.div_lt_iff_lt_mul (Nat.pow_pos (n := k) (by decide : 0 < 10))).mp h
  rw [Nat.pow_add, Nat.mul_comm]
  exact this
theorem gB_e1 {v t : Nat} (hd1 : v < 10 ^ sb_dg v) (hd2 : sb_dg v = 1 ∨ 10 ^ (sb_dg v - 1) ≤ v) (hk : 2 * t < sb_dg v) (h : v / 10 ^ (2 * t) ≤ 9) : 2 * t + 1 = sb_dg v := by
  have h1 : v < 10 ^ (2 * t + 1) := gB_lt (a := 1) (by omega)
  have := pow_inj hd2 h1 (by omega) (by omega)
  omega
theorem gB_e2 {v t : Nat} (hd1 : v < 10 ^ sb_dg v) (hd2 : sb_dg v = 1 ∨ 10 ^ (sb_dg v - 1) ≤ v) (h : 9 < v / 10 ^ (2 * t)) (h9 : v / 10 ^ (2 * t) < 100) : 2 * t + 2 = sb_dg v := by
  have h1 : v < 10 ^ (2 * t + 2) := gB_lt (a := 2) (by omega)
  have h2 := pow_inj hd2 h1 dg_1 (by omega)
  have h3 := le_dv (show 10 ≤ v / 10 ^ (2 * t) from h)
  have h4 := pow_inj (i := 2 * t + 2) (Or.inr (by rw [show 2 * t + 2 - 1 = 2 * t + 1 by omega, Nat.pow_succ]; omega)) hd1 (by omega) dg_1
  omega
set_option maxHeartbeats 4000000 in
theorem j24_size1 {l : Launch} {dC : Nat → ClassId} {dI : Nat → Nat → Nat} {dA : Nat → ClassId} {s0 : State} {b0 : Addr} (Z : Z0 l dC dI dA s0 b0) {σ : Nat → Nat} {dS : va_G} (Y2 : S2 (dC, dI) dS dA σ s0) (v : Nat) (h1 : v ≤ 9) : Met l yJ24_stringSize (ws_ yJ24_stringSize cJ24_stringSize 4 (some .int)) ({ frames := 1, cells := 0, slots := 0, locals := 60 } : Room) (gP [.int (nI v)] s0 (fun _ => False) (fun H => True)) (vp_Si (fun r => r = nI 1)) 0 0 (fun _ => False) := by
  refine Met.ofW (cc := cJ24_stringSize) (maxL := 4) (ret := (some .int)) (by decide) rfl ?_
  intro p e s m args below meth c s₁ B hml hv
  obtain ⟨hav, hG, hno⟩ := hv
  have hx := B.exec
  have hb := B.bytes
  have hr := B.returns
  have hts := atoms_spec (ws := (ws_ yJ24_stringSize cJ24_stringSize 4 (some .int))) B.pre
  have hts : ∀ w ∈ lw_all, w.before _ s = true := fun w h => hts w (List.mem_cons_of_mem _ h)
  have hown : s.vm.findClass RJ24 = some m.cls := findClass_of_methodNamed B.named
  have hlocks := B.notSynchronized
  have hK := hG.K Z
  have hS : va_S (fun _ => False) s.heap s.heap [] := va_S.rf
  have hP : va_P (dC, dI) vwCl [] s.heap := fun k q h => by simp at h
  have hD : va_D (fun _ => False) [] := ⟨fun i j p q h => by simp at h, fun k q h => by simp at h⟩
  have hl := lv_entry ([.int (nI v)]) (n := 4) (Nat.le_of_ble_eq_true rfl)
  rw [show entryFrame m args 4 = entryFrame m ([.int (nI v)] : List Value).toArray 4 from by rw [hav], lg_entry_eq]
  generalize (lg_sl ([.int (nI v)]) ++ List.replicate (4 - (lg_sl ([.int (nI v)])).length) Slot.unset).toArray = ls at hl ⊢
  have hl : lv_has ls 4 [(0, .int (nI v))] := hl
  generalize hQe : MQ below _ _ s _ _ _ = Q
  change W p l e ({ frames := 1, cells := 0, slots := 0, locals := 60 } : Room) s m args below meth c s.heap [] 0 0 Q (F0 m 0 ls [])
  refine lv_iconst (v := nI 1) hx hb dJ24_stringSize_0 (by decide) ?_
  refine lv_istore_n (lv' := [(1, .int (nI 1)), (0, .int (nI v))]) hx hb dJ24_stringSize_1 rfl hl (by decide) rfl (fun ls hl => ?_)
  refine lv_iload_n hx hb dJ24_stringSize_2 rfl (lv_at hl 1 rfl) ?_
  refine lv_if_lt (tgt := 11) hx hb dJ24_stringSize_3 (by decide) (fun c_3 => ?_) (fun c_3 => ?_)
  · have c_3 : v < 0 := (nI_ltI (a := v) (b := 0) (by omega) (by omega)).mp c_3
    exfalso; omega
  · have c_3 : ¬ v < 0 := fun h => c_3 ((nI_ltI (a := v) (b := 0) (by omega) (by omega)).mpr h)
    refine lv_iconst (v := nI 0) hx hb dJ24_stringSize_6 (by decide) ?_
    refine lv_istore_n (lv' := [(1, .int (nI 0)), (0, .int (nI v))]) hx hb dJ24_stringSize_7 rfl hl (by decide) rfl (fun ls hl => ?_)
    refine lv_iload_n hx hb dJ24_stringSize_8 rfl (lv_at hl 1 rfl) ?_
    refine lv_ineg hx hb dJ24_stringSize_9 ?_
    refine lv_istore_n (lv' := [(0, .int (-(nI v))), (1, .int (nI 0))]) hx hb dJ24_stringSize_10 rfl hl (by decide) rfl (fun ls hl => ?_)
    refine lv_bipush (v := (-10)) hx hb dJ24_stringSize_11 (by decide) ?_
    refine lv_istore_n (lv' := [(2, .int (-10)), (0, .int (-(nI v))), (1, .int (nI 0))]) hx hb dJ24_stringSize_13 rfl hl (by decide) rfl (fun ls hl => ?_)
    refine lv_iconst (v := nI 1) hx hb dJ24_stringSize_14 (by decide) ?_
    refine lv_istore_n (lv' := [(3, .int (nI 1)), (2, .int (-10)), (0, .int (-(nI v))), (1, .int (nI 0))]) hx hb dJ24_stringSize_15 rfl hl (by decide) rfl (fun ls hl => ?_)
    refine lv_iload_n hx hb dJ24_stringSize_16 rfl (lv_at hl 0 rfl) ?_
    refine lv_bipush (v := nI 10) hx hb dJ24_stringSize_17 (by decide) ?_
    refine lv_icmp_ge (tgt := 42) hx hb dJ24_stringSize_19 (by decide) (fun c_19 => ?_) (fun c_19 => ?_)
    · exact absurd c_19 (by decide)
    refine lv_iload_n hx hb dJ24_stringSize_22 rfl (lv_at hl 2 rfl) ?_
    refine lv_iload_n hx hb dJ24_stringSize_23 rfl (lv_at hl 1 rfl) ?_
    refine lv_icmp_le (tgt := 31) hx hb dJ24_stringSize_24 (by decide) (fun c_24 => ?_) (fun c_24 => ?_)
    · exact absurd c_24 (ng_nle (k := 10) (by omega) (by decide))
    · refine lv_iload_n hx hb dJ24_stringSize_27 rfl (lv_at hl 0 rfl) ?_
      refine lv_iload_n hx hb dJ24_stringSize_28 rfl (lv_at hl 3 rfl) ?_
      refine lv_iadd hx hb dJ24_stringSize_29 ?_
      refine e_i (y := nI 1) (nI_add _ _) ?_
      subst hQe
      exact W.iret (v := nI 1) hx hb hr (fun tz ht hW => ⟨_, rfl, rfl, ht⟩) hS.2.2 dJ24_stringSize_30
set_option maxHeartbeats 4000000 in
theorem j24_getChars1 {l : Launch} {dC : Nat → ClassId} {dI : Nat → Nat → Nat} {dA : Nat → ClassId} {s0 : State} {b0 : Addr} (Z : Z0 l dC dI dA s0 b0) (A : Nat → Prop) (sz : Nat) (hA : ∀ q : Nat, sz ≤ q → A q) {σ : Nat → Nat} {dS : va_G} (Y2 : S2 (dC, dI) dS dA σ s0) (bv bm n v : Nat) (f : Nat → Int32) (h1 : v ≤ 9) (h2 : n < bm) (h3 : bm ≤ 20000) : Met l yJ24_getChars (ws_ yJ24_getChars cJ24_getChars 7 (some .int)) ({ frames := 1, cells := 0, slots := 0, locals := 60 } : Room) (gP [.int (nI v), .int (nI (n + 1)), .ref bv] s0 A (fun H => H.size = sz ∧ va_P (dC, dI) vwCl [(bv, .inl (dA 2, bm, .inl f))] H ∧ va_D A [(bv, .inl (dA 2, bm, .inl f))])) (va_Qi (S := Unit) (fun _ _ => True) (B1 (dC, dI) A (fun _ => [(bv, .inl (dA 2, bm, .inl (upd f n (sb_b (48 + v)))))]) (fun _ _ => True)) A) 0 0 A := by
  refine Met.ofW (cc := cJ24_getChars) (maxL := 7) (ret := (some .int)) (by decide) rfl ?_
  intro p e s m args below meth c s₁ B hml hv
  obtain ⟨hav, hG, hsz, hP, hD⟩ := hv
  have hx := B.exec
  have hb := B.bytes
  have hr := B.returns
  have hts := atoms_spec (ws := (ws_ yJ24_getChars cJ24_getChars 7 (some .int))) B.pre
  have hts : ∀ w ∈ lw_all, w.before _ s = true := fun w h => hts w (List.mem_cons_of_mem _ h)
  have hown : s.vm.findClass RJ24 = some m.cls := findClass_of_methodNamed B.named
  have hlocks := B.notSynchronized
  have hK := hG.K Z
  subst hsz
  have hS : va_S A s.heap s.heap [] := va_S.rf
  have hl := lv_entry ([.int (nI v), .int (nI (n + 1)), .ref bv]) (n := 7) (Nat.le_of_ble_eq_true rfl)
  rw [show entryFrame m args 7 = entryFrame m ([.int (nI v), .int (nI (n + 1)), .ref bv] : List Value).toArray 7 from by rw [hav], lg_entry_eq]
  generalize (lg_sl ([.int (nI v), .int (nI (n + 1)), .ref bv]) ++ List.replicate (7 - (lg_sl ([.int (nI v), .int (nI (n + 1)), .ref bv])).length) Slot.unset).toArray = ls at hl ⊢
  have hl : lv_has ls 7 [(0, .int (nI v)), (1, .int (nI (n + 1))), (2, .ref bv)] := hl
  generalize hQe : MQ below _ _ s _ _ _ = Q
  change W p l e ({ frames := 1, cells := 0, slots := 0, locals := 60 } : Room) s m args below meth c s.heap [] 0 0 Q (F0 m 0 ls [])
  have hR0 := hG.RO Y2.2.2.1.2
  have hR1 := hG.RO Y2.2.2.2.1.2
  refine lv_iload_n hx hb dJ24_getChars_0 rfl (lv_at hl 1 rfl) ?_
  refine lv_istore (lv' := [(5, .int (nI (n + 1))), (0, .int (nI v)), (1, .int (nI (n + 1))), (2, .ref bv)]) hx hb dJ24_getChars_1 hl (by decide) rfl (fun ls hl => ?_)
  refine lv_iload_n hx hb dJ24_getChars_3 rfl (lv_at hl 1 rfl) ?_
  refine lv_if_ge (tgt := 11) hx hb dJ24_getChars_4 (by decide) (fun c_4 => ?_) (fun c_4 => ?_)
  · have c_4 : 0 ≤ v := (nI_leI (a := 0) (b := v) (by omega) (by omega)).mp c_4
    refine lv_iconst (v := nI 0) hx hb dJ24_getChars_11 (by decide) ?_
    refine lv_istore (lv' := [(6, .int (nI 0)), (5, .int (nI (n + 1))), (0, .int (nI v)), (1, .int (nI (n + 1))), (2, .ref bv)]) hx hb dJ24_getChars_12 hl (by decide) rfl (fun ls hl => ?_)
    refine lv_iload hx hb dJ24_getChars_14 (lv_at hl 0 rfl) ?_
    refine lv_if_ne (tgt := 22) hx hb dJ24_getChars_16 (by decide) (fun c_16 => ?_) (fun c_16 => ?_)
    · exact absurd (by decide) c_16
    refine lv_iload_n hx hb dJ24_getChars_19 rfl (lv_at hl 2 rfl) ?_
    refine lv_ineg hx hb dJ24_getChars_20 ?_
    refine lv_istore_n (lv' := [(0, .int (-(nI v))), (6, .int (nI 0)), (5, .int (nI (n + 1))), (1, .int (nI (n + 1))), (2, .ref bv)]) hx hb dJ24_getChars_21 rfl hl (by decide) rfl (fun ls hl => ?_)
    refine lv_iload_n hx hb dJ24_getChars_22 rfl (lv_at hl 0 rfl) ?_
    refine lv_bipush (v := (-100)) hx hb dJ24_getChars_23 (by decide) ?_
    refine lv_icmp_gt (tgt := 72) hx hb dJ24_getChars_25 (by decide) (fun c_25 => ?_) (fun c_25 => ?_)
    · refine lv_aload_n hx hb dJ24_getChars_72 rfl (lv_at hl 4 rfl) ?_
      refine lv_iinc (v := nI n) (lv' := [(5, .int (nI n)), (0, .int (-(nI v))), (6, .int (nI 0)), (1, .int (nI (n + 1))), (2, .ref bv)]) hx hb dJ24_getChars_73 hl (k := 2) rfl (n_dec rfl) (by decide) rfl (fun ls hl => ?_)
      refine lv_iload hx hb dJ24_getChars_76 (lv_at hl 0 rfl) ?_
      refine va_gets (v := .ref (σ 61)) hx hb (hG.Z Z Y2.2.2.1.1) hS hown (hts _ q1521) (fun _ h9 => h9) dJ24_getChars_78 ?_
      refine lv_iload_n hx hb dJ24_getChars_81 rfl (lv_at hl 1 rfl) ?_
      refine lv_ineg hx hb dJ24_getChars_82 ?_
      refine e_i (y := nI v) (by rw [Int32.neg_neg]) ?_
      refine a_bald hx hb hK (hR0.up hS) 0 2 rfl rfl (by omega) (by omega) dJ24_getChars_83 ?_
      refine a_bast hx hb hK hP hD hS 0 2 rfl rfl (by omega) (by omega) dJ24_getChars_84 (fun H locs hP hD hS => ?_)
      have hP : va_P (dC, dI) vwCl [(bv, .inl (dA 2, bm, .inl (upd f n (vp_nar .byte ((fun k => nI (48 + k % 10)) v)))))] H := hP
      have hD : va_D A [(bv, .inl (dA 2, bm, .inl (upd f n (vp_nar .byte ((fun k => nI (48 + k % 10)) v)))))] := hD
      have e9 : (upd f n (vp_nar .byte ((fun k => nI (48 + k % 10)) v)) : Nat → Int32) = (upd f n (sb_b (48 + v))) := (congrArg (upd f n) (show vp_nar .byte (nI (48 + v % 10)) = sb_b (48 + v) by rw [show v % 10 = v by omega]; rfl))
      rw [e9] at hP hD; clear e9
      refine lv_iload_n hx hb dJ24_getChars_85 rfl (lv_at hl 1 rfl) ?_
      refine lv_bipush (v := (-9)) hx hb dJ24_getChars_86 (by decide) ?_
      refine lv_icmp_ge (tgt := 104) hx hb dJ24_getChars_88 (by decide) (fun c_88 => ?_) (fun c_88 => ?_)
      · refine lv_iload hx hb dJ24_getChars_104 (lv_at hl 2 rfl) ?_
        refine lv_if_eq (tgt := 118) hx hb dJ24_getChars_106 (by decide) (fun c_106 => ?_) (fun c_106 => ?_)
        rotate_left
        · exact absurd (by decide) c_106
        refine lv_iload hx hb dJ24_getChars_118 (lv_at hl 0 rfl) ?_
        subst hQe
        exact W.iret (v := nI n) hx hb hr (fun tz ht hW => ⟨⟨_, (), rfl, trivial, B1_at ht (hP.sub [0] rfl) (hD.sub [0] (by decide) rfl) trivial⟩, hS.F ht⟩) hS.2.2 dJ24_getChars_120
      · exact absurd (ng_ge (k := 9) (by omega) (by decide)) c_88
    · exact absurd (ng_gt (k := 100) (by omega) (by decide)) c_25
  · have c_4 : ¬ 0 ≤ v := fun h => c_4 ((nI_leI (a := 0) (b := v) (by omega) (by omega)).mpr h)
    exfalso; omega
set_option maxHeartbeats 4000000 in
theorem j28_stringSize {l : Launch} {dC : Nat → ClassId} {dI : Nat → Nat → Nat} {dA : Nat → ClassId} {s0 : State} {b0 : Addr} (Z : Z0 l dC dI dA s0 b0) {σ : Nat → Nat} {dS : va_G} (Y2 : S2 (dC, dI) dS dA σ s0) (v : Nat) (hv : v < 1000000000) : Met l yJ28_stringSize (ws_ yJ28_stringSize cJ28_stringSize 6 (some .int)) ({ frames := 1, cells := 0, slots := 0, locals := 60 } : Room) (gP [.long (lN v)] s0 (fun _ => False) (fun H => True)) (vp_Si (fun r => r = nI (sb_dg v))) 0 0 (fun _ => False) := by
  refine Met.ofW (cc := cJ28_stringSize) (maxL := 6) (ret := (some .int)) (by decide) rfl ?_
  intro p e s m args below meth c s₁ B hml hv
  obtain ⟨hav, hG, hno⟩ := hv
  have hx := B.exec
  have hb := B.bytes
  have hr := B.returns
  have hts := atoms_spec (ws := (ws_ yJ28_stringSize cJ28_stringSize 6 (some .int))) B.pre
  have hts : ∀ w ∈ lw_all, w.before _ s = true := fun w h => hts w (List.mem_cons_of_mem _ h)
  have hown : s.vm.findClass RJ28 = some m.cls := findClass_of_methodNamed B.named
  have hlocks := B.notSynchronized
  have hK := hG.K Z
  have hS : va_S (fun _ => False) s.heap s.heap [] := va_S.rf
  have hP : va_P (dC, dI) vwCl [] s.heap := fun k q h => by simp at h
  have hD : va_D (fun _ => False) [] := ⟨fun i j p q h => by simp at h, fun k q h => by simp at h⟩
  have hl := lv_entry ([.long (lN v)]) (n := 6) (Nat.le_of_ble_eq_true rfl)
  rw [show entryFrame m args 6 = entryFrame m ([.long (lN v)] : List Value).toArray 6 from by rw [hav], lg_entry_eq]
  generalize (lg_sl ([.long (lN v)]) ++ List.replicate (6 - (lg_sl ([.long (lN v)])).length) Slot.unset).toArray = ls at hl ⊢
  have hl : lv_has ls 6 [(0, .long (lN v))] := hl
  generalize hQe : MQ below _ _ s _ _ _ = Q
  change W p l e ({ frames := 1, cells := 0, slots := 0, locals := 60 } : Room) s m args below meth c s.heap [] 0 0 Q (F0 m 0 ls [])
  refine lv_iconst (v := nI 1) hx hb dJ28_stringSize_0 (by decide) ?_
  refine lv_istore_n (lv' := [(2, .int (nI 1)), (0, .long (lN v))]) hx hb dJ28_stringSize_1 rfl hl (by decide) rfl (fun ls hl => ?_)
  refine lv_lload_n hx hb dJ28_stringSize_2 rfl (lv_at hl 1 rfl) ?_
  refine lv_lconst (v := 0) hx hb dJ28_stringSize_3 rfl ?_
  refine W.lcmp hx hb dJ28_stringSize_4 ?_
  refine lv_if_lt (tgt := 13) hx hb dJ28_stringSize_5 (by decide) (fun c_5 => ?_) (fun c_5 => ?_)
  · have c_5 : (lN v) < 0 := (lg_cmp_lt _ _).mp c_5
    exact absurd c_5 (l_nlt0 (by omega))
  · have c_5 : ¬ (lN v) < 0 := fun h => c_5 ((lg_cmp_lt _ _).mpr h)
    refine lv_iconst (v := nI 0) hx hb dJ28_stringSize_8 (by decide) ?_
    refine lv_istore_n (lv' := [(2, .int (nI 0)), (0, .long (lN v))]) hx hb dJ28_stringSize_9 rfl hl (by decide) rfl (fun ls hl => ?_)
    refine lv_lload_n hx hb dJ28_stringSize_10 rfl (lv_at hl 1 rfl) ?_
    refine lv_lneg hx hb dJ28_stringSize_11 ?_
    refine lv_lstore_n (lv' := [(0, .long (-(lN v))), (2, .int (nI 0))]) hx hb dJ28_stringSize_12 rfl hl (by decide) rfl (fun ls hl => ?_)
    refine lv_ldc2 hx hb hown (hts _ q1946) dJ28_stringSize_13 ?_
    refine e_l (y := -lN (10 ^ 1)) (by decide) ?_
    refine lv_lstore_n (lv' := [(3, .long (-lN (10 ^ 1))), (0, .long (-(lN v))), (2, .int (nI 0))]) hx hb dJ28_stringSize_16 rfl hl (by decide) rfl (fun ls hl => ?_)
    refine lv_iconst (v := nI 1) hx hb dJ28_stringSize_17 (by decide) ?_
    refine lv_istore (lv' := [(5, .int (nI 1)), (3, .long (-lN (10 ^ 1))), (0, .long (-(lN v))), (2, .int (nI 0))]) hx hb dJ28_stringSize_18 hl (by decide) rfl (fun ls hl => ?_)
    have loop_1 : ∀ (n9_1 : Nat) (ki : Nat) (ls : Array Slot), 20 - ki < n9_1 → (1 ≤ ki) → (ki = 1 ∨ 10 ^ (ki - 1) ≤ v) → (ki ≤ 9) → lv_has ls 6 [(0, .long (-(lN v))), (2, .int (nI 0)), (3, .long (-lN (10 ^ ki))), (5, .int (nI ki))] → W p l e ({ frames := 1, cells := 0, slots := 0, locals := 60 } : Room) s m args below meth c s.heap [] 0 0 Q (F0 m 20 ls []) := by
      intro n9_1
      induction n9_1 with
      | zero => intro ki ls hm_1; exact absurd hm_1 (Nat.not_lt_zero _)
      | succ n9_1 ih_1 =>
        intro ki ls hm_1 hk1 hk2 hk3 hl
        have hp := p10 hk3
        refine lv_iload hx hb dJ28_stringSize_20 (lv_at hl 3 rfl) ?_
        refine lv_bipush (v := nI 19) hx hb dJ28_stringSize_22 (by decide) ?_
        refine lv_icmp_ge (tgt := 50) hx hb dJ28_stringSize_24 (by decide) (fun c_24 => ?_) (fun c_24 => ?_)
        · have c_24 : 19 ≤ ki := (nI_leI (a := 19) (b := ki) (by omega) (by omega)).mp c_24
          exfalso; omega
        · have c_24 : ¬ 19 ≤ ki := fun h => c_24 ((nI_leI (a := 19) (b := ki) (by omega) (by omega)).mpr h)
          refine lv_lload_n hx hb dJ28_stringSize_27 rfl (lv_at hl 0 rfl) ?_
          refine lv_lload_n hx hb dJ28_stringSize_28 rfl (lv_at hl 2 rfl) ?_
          refine W.lcmp hx hb dJ28_stringSize_29 ?_
          refine lv_if_le (tgt := 38) hx hb dJ28_stringSize_30 (by decide) (fun c_30 => ?_) (fun c_30 => ?_)
          · have c_30 : (-(lN v)) ≤ (-lN (10 ^ ki)) := (lg_cmp_le _ _).mp c_30
            have hv10 : 10 ^ ki ≤ v := (lng_le (by omega) (by omega)).mp c_30
            refine lv_ldc2 hx hb hown (hts _ q1947) dJ28_stringSize_38 ?_
            refine lv_lload_n hx hb dJ28_stringSize_41 rfl (lv_at hl 2 rfl) ?_
            refine lv_lmul hx hb dJ28_stringSize_42 ?_
            refine e_l (y := -lN (10 ^ (ki + 1))) (lng_mul) ?_
            refine lv_lstore_n (lv' := [(3, .long (-lN (10 ^ (ki + 1)))), (0, .long (-(lN v))), (2, .int (nI 0)), (5, .int (nI ki))]) hx hb dJ28_stringSize_43 rfl hl (by decide) rfl (fun ls hl => ?_)
            refine lv_iinc (v := nI (ki + 1)) (lv' := [(5, .int (nI (ki + 1))), (3, .long (-lN (10 ^ (ki + 1)))), (0, .long (-(lN v))), (2, .int (nI 0))]) hx hb dJ28_stringSize_44 hl (k := 3) rfl (by exact nI_add _ 1) (by decide) rfl (fun ls hl => ?_)
            refine lv_goto (tgt := 20) hx hb dJ28_stringSize_47 (by decide) ?_
            exact ih_1 (ki + 1) ls (by omega) (by omega) (Or.inr hv10) (dg_9 hv hv10) (lv_sub hl [2, 3, 1, 0] rfl)
          · have c_30 : ¬ (-(lN v)) ≤ (-lN (10 ^ ki)) := fun h => c_30 ((lg_cmp_le _ _).mpr h)
            have hv10 : v < 10 ^ ki := by
              apply Decidable.byContradiction
              intro z
              exact c_30 ((lng_le (by omega) (by omega)).mpr (by omega))
            refine lv_iload hx hb dJ28_stringSize_33 (lv_at hl 3 rfl) ?_
            refine lv_iload_n hx hb dJ28_stringSize_35 rfl (lv_at hl 1 rfl) ?_
            refine lv_iadd hx hb dJ28_stringSize_36 ?_
            refine e_i (y := nI (ki + 0)) (nI_add _ _) ?_
            refine e_i (y := nI (sb_dg v)) (n_eq (dg_eq hk1 hk2 hv10 hv)) ?_
            subst hQe
            exact W.iret (v := nI (sb_dg v)) hx hb hr (fun tz ht hW => ⟨_, rfl, rfl, ht⟩) hS.2.2 dJ28_stringSize_37
    exact loop_1 _ 1 ls (Nat.lt_succ_self _) (by decide) (Or.inl rfl) (by decide) (lv_sub hl [2, 3, 1, 0] rfl)
set_option maxHeartbeats 4000000 in
theorem j28_getChars {l : Launch} {dC : Nat → ClassId} {dI : Nat → Nat → Nat} {dA : Nat → ClassId} {s0 : State} {b0 : Addr} (Z : Z0 l dC dI dA s0 b0) (A : Nat → Prop) (sz : Nat) (hA : ∀ q : Nat, sz ≤ q → A q) {σ : Nat → Nat} {dS : va_G} (Y2 : S2 (dC, dI) dS dA σ s0) (bv bm n v : Nat) (f : Nat → Int32) (hv : v < 1000000000) (h2 : n + sb_dg v ≤ bm) (h3 : bm ≤ 20000) : Met l yJ28_getChars (ws_ yJ28_getChars cJ28_getChars 11 (some .int)) ({ frames := 1, cells := 0, slots := 0, locals := 60 } : Room) (gP [.long (lN v), .int (nI (n + sb_dg v)), .ref bv] s0 A (fun H => H.size = sz ∧ va_P (dC, dI) vwCl [(bv, .inl (dA 2, bm, .inl f))] H ∧ va_D A [(bv, .inl (dA 2, bm, .inl f))])) (va_Qi (S := Unit) (fun _ _ => True) (B1 (dC, dI) A (fun _ => [(bv, .inl (dA 2, bm, .inl (gB f n v (sb_dg v))))]) (fun _ _ => True)) A) 0 0 A := by
  refine Met.ofW (cc := cJ28_getChars) (maxL := 11) (ret := (some .int)) (by decide) rfl ?_
  intro p e s m args below meth c s₁ B hml hv
  obtain ⟨hav, hG, hsz, hP, hD⟩ := hv
  have hx := B.exec
  have hb := B.bytes
  have hr := B.returns
  have hts := atoms_spec (ws := (ws_ yJ28_getChars cJ28_getChars 11 (some .int))) B.pre
  have hts : ∀ w ∈ lw_all, w.before _ s = true := fun w h => hts w (List.mem_cons_of_mem _ h)
  have hown : s.vm.findClass RJ28 = some m.cls := findClass_of_methodNamed B.named
  have hlocks := B.notSynchronized
  have hK := hG.K Z
  subst hsz
  have hS : va_S A s.heap s.heap [] := va_S.rf
  have hl := lv_entry ([.long (lN v), .int (nI (n + sb_dg v)), .ref bv]) (n := 11) (Nat.le_of_ble_eq_true rfl)
  rw [show entryFrame m args 11 = entryFrame m ([.long (lN v), .int (nI (n + sb_dg v)), .ref bv] : List Value).toArray 11 from by rw [hav], lg_entry_eq]
  generalize (lg_sl ([.long (lN v), .int (nI (n + sb_dg v)), .ref bv]) ++ List.replicate (11 - (lg_sl ([.long (lN v), .int (nI (n + sb_dg v)), .ref bv])).length) Slot.unset).toArray = ls at hl ⊢
  have hl : lv_has ls 11 [(0, .long (lN v)), (2, .int (nI (n + sb_dg v))), (3, .ref bv)] := hl
  generalize hQe : MQ below _ _ s _ _ _ = Q
  change W p l e ({ frames := 1, cells := 0, slots := 0, locals := 60 } : Room) s m args below meth c s.heap [] 0 0 Q (F0 m 0 ls [])
  have hR0 := hG.RO Y2.2.2.1.2
  have hR1 := hG.RO Y2.2.2.2.1.2
  obtain ⟨hd1, hd2⟩ := dg_D hv
  have hd3 := sb_dg8 hv
  have hd0 : 1 ≤ sb_dg v := dg_1
  refine lv_iload_n hx hb dJ28_getChars_0 rfl (lv_at hl 1 rfl) ?_
  refine lv_istore (lv' := [(7, .int (nI (n + sb_dg v))), (0, .long (lN v)), (2, .int (nI (n + sb_dg v))), (3, .ref bv)]) hx hb dJ28_getChars_1 hl (by decide) rfl (fun ls hl => ?_)
  refine lv_lload_n hx hb dJ28_getChars_3 rfl (lv_at hl 1 rfl) ?_
  refine lv_lconst (v := 0) hx hb dJ28_getChars_4 rfl ?_
  refine W.lcmp hx hb dJ28_getChars_5 ?_
  refine lv_if_ge (tgt := 13) hx hb dJ28_getChars_6 (by decide) (fun c_6 => ?_) (fun c_6 => ?_)
  · have c_6 : 0 ≤ (lN v) := (lg_cmp_ge _ _).mp c_6
    refine lv_iconst (v := nI 0) hx hb dJ28_getChars_13 (by decide) ?_
    refine lv_istore (lv' := [(8, .int (nI 0)), (7, .int (nI (n + sb_dg v))), (0, .long (lN v)), (2, .int (nI (n + sb_dg v))), (3, .ref bv)]) hx hb dJ28_getChars_14 hl (by decide) rfl (fun ls hl => ?_)
    refine lv_iload hx hb dJ28_getChars_16 (lv_at hl 0 rfl) ?_
    refine lv_if_ne (tgt := 24) hx hb dJ28_getChars_18 (by decide) (fun c_18 => ?_) (fun c_18 => ?_)
    · exact absurd (by decide) c_18
    refine lv_lload_n hx hb dJ28_getChars_21 rfl (lv_at hl 2 rfl) ?_
    refine lv_lneg hx hb dJ28_getChars_22 ?_
    refine lv_lstore_n (lv' := [(0, .long (-(lN v))), (8, .int (nI 0)), (7, .int (nI (n + sb_dg v))), (2, .int (nI (n + sb_dg v))), (3, .ref bv)]) hx hb dJ28_getChars_23 rfl hl (by decide) rfl (fun ls hl => ?_)
    refine lv_lload_n hx hb dJ28_getChars_24 rfl (lv_at hl 0 rfl) ?_
    refine lv_ldc2 hx hb hown (hts _ q1951) dJ28_getChars_25 ?_
    refine W.lcmp hx hb dJ28_getChars_28 ?_
    refine lv_if_gt (tgt := 82) hx hb dJ28_getChars_29 (by decide) (fun c_29 => ?_) (fun c_29 => ?_)
    · have c_29 : (-2147483648 : Int64) < (-(lN v)) := (lg_cmp_gt _ _).mp c_29
      refine lv_lload_n hx hb dJ28_getChars_82 rfl (lv_at hl 0 rfl) ?_
      refine lv_l2i (v := (-(lN v)).toInt32) hx hb dJ28_getChars_83 rfl ?_
      refine e_i (y := -nI v) (l_i32) ?_
      refine lv_istore (lv' := [(10, .int (-nI v)), (0, .long (-(lN v))), (8, .int (nI 0)), (7, .int (nI (n + sb_dg v))), (2, .int (nI (n + sb_dg v))), (3, .ref bv)]) hx hb dJ28_getChars_84 hl (by decide) rfl (fun ls hl => ?_)
      have hl : lv_has ls 11 [(10, .int (-nI (v / 10 ^ (2 * 0)))), (0, .long (-(lN v))), (8, .int (nI 0)), (7, .int (nI (n + sb_dg v))), (2, .int (nI (n + sb_dg v))), (3, .ref bv)] := by rw [show -nI (v / 10 ^ (2 * 0)) = -nI v from congrArg (fun z => -nI z) (show v / 10 ^ (2 * 0) = v by simp)]; exact hl
      have e9 : (f : Nat → Int32) = (gB f n v (2 * 0)) := gB_0.symm
      rw [e9] at hP hD; clear e9
      have loop_1 : ∀ (n9_1 : Nat) (kt : Nat) (H : Heap) (locs : List Loc) (ls : Array Slot), 9 - kt < n9_1 → (2 * kt < sb_dg v) → va_P (dC, dI) vwCl [(bv, .inl (dA 2, bm, .inl (gB f n v (2 * kt))))] H → va_D A [(bv, .inl (dA 2, bm, .inl (gB f n v (2 * kt))))] → va_S A s.heap H locs → lv_has ls 11 [(0, .long (-(lN v))), (2, .int (nI (n + sb_dg v))), (3, .ref bv), (7, .int (nI (n + sb_dg v - 2 * kt))), (8, .int (nI 0)), (10, .int (-nI (v / 10 ^ (2 * kt))))] → W p l e ({ frames := 1, cells := 0, slots := 0, locals := 60 } : Room) s m args below meth c H locs 0 0 Q (F0 m 86 ls []) := by
        intro n9_1
        induction n9_1 with
        | zero => intro kt H locs ls hm_1; exact absurd hm_1 (Nat.not_lt_zero _)
        | succ n9_1 ih_1 =>
          intro kt H locs ls hm_1 hk1 hP hD hS hl
          have hw31 : v / 10 ^ (2 * kt) < 2 ^ 31 := Nat.lt_of_le_of_lt (Nat.div_le_self _ _) (by omega)
          refine lv_iload hx hb dJ28_getChars_86 (lv_at hl 5 rfl) ?_
          refine lv_bipush (v := (-100)) hx hb dJ28_getChars_88 (by decide) ?_
          refine lv_icmp_gt (tgt := 143) hx hb dJ28_getChars_90 (by decide) (fun c_90 => ?_) (fun c_90 => ?_)
          · have hw9 : v / 10 ^ (2 * kt) < 100 := ng_lt hw31 c_90
            refine lv_aload_n hx hb dJ28_getChars_143 rfl (lv_at hl 2 rfl) ?_
            refine lv_iinc (v := nI (n + sb_dg v - 2 * kt - 1)) (lv' := [(7, .int (nI (n + sb_dg v - 2 * kt - 1))), (0, .long (-(lN v))), (2, .int (nI (n + sb_dg v))), (3, .ref bv), (8, .int (nI 0)), (10, .int (-nI (v / 10 ^ (2 * kt))))]) hx hb dJ28_getChars_144 hl (k := 3) rfl (n_dec (by omega)) (by decide) rfl (fun ls hl => ?_)
            refine lv_iload hx hb dJ28_getChars_147 (lv_at hl 0 rfl) ?_
            refine va_gets (v := .ref (σ 61)) hx hb (hG.Z Z Y2.2.2.1.1) hS hown (hts _ q1953) (fun _ h9 => h9) dJ28_getChars_149 ?_
            refine lv_iload hx hb dJ28_getChars_152 (lv_at hl 5 rfl) ?_
            refine lv_ineg hx hb dJ28_getChars_154 ?_
            refine e_i (y := nI (v / 10 ^ (2 * kt))) (by rw [Int32.neg_neg]) ?_
            refine a_bald hx hb hK (hR0.up hS) 0 2 rfl rfl (by omega) (by omega) dJ28_getChars_155 ?_
            refine a_bast hx hb hK hP hD hS 0 2 rfl rfl (by omega) (by omega) dJ28_getChars_156 (fun H locs hP hD hS => ?_)
            have hP : va_P (dC, dI) vwCl [(bv, .inl (dA 2, bm, .inl (upd (gB f n v (2 * kt)) (n + sb_dg v - 2 * kt - 1) (vp_nar .byte ((fun k => nI (48 + k % 10)) (v / 10 ^ (2 * kt)))))))] H := hP
            have hD : va_D A [(bv, .inl (dA 2, bm, .inl (upd (gB f n v (2 * kt)) (n + sb_dg v - 2 * kt - 1) (vp_nar .byte ((fun k => nI (48 + k % 10)) (v / 10 ^ (2 * kt)))))))] := hD
            have e9 : (upd (gB f n v (2 * kt)) (n + sb_dg v - 2 * kt - 1) (vp_nar .byte ((fun k => nI (48 + k % 10)) (v / 10 ^ (2 * kt)))) : Nat → Int32) = (gB f n v (2 * kt + 1)) := gB_s (by omega) (by omega) (gB_3)
            rw [e9] at hP hD; clear e9
            refine lv_iload hx hb dJ28_getChars_157 (lv_at hl 5 rfl) ?_
            refine lv_bipush (v := (-9)) hx hb dJ28_getChars_159 (by decide) ?_
            refine lv_icmp_ge (tgt := 178) hx hb dJ28_getChars_161 (by decide) (fun c_161 => ?_) (fun c_161 => ?_)
            · have hw8 := ng_le9 hw31 c_161
              have hDD : 2 * kt + 1 = sb_dg v := gB_e1 hd1 hd2 hk1 hw8
              have e9 : (gB f n v (2 * kt + 1) : Nat → Int32) = (gB f n v (sb_dg v)) := (by rw [hDD])
              rw [e9] at hP hD; clear e9
              refine lv_iload hx hb dJ28_getChars_178 (lv_at hl 4 rfl) ?_
              refine lv_if_eq (tgt := 192) hx hb dJ28_getChars_180 (by decide) (fun c_180 => ?_) (fun c_180 => ?_)
              rotate_left
              · exact absurd (by decide) c_180
              refine lv_iload hx hb dJ28_getChars_192 (lv_at hl 0 rfl) ?_
              subst hQe
              exact W.iret (v := nI (n + sb_dg v - 2 * kt - 1)) hx hb hr (fun tz ht hW => ⟨⟨_, (), rfl, trivial, B1_at ht (hP.sub [0] rfl) (hD.sub [0] (by decide) rfl) trivial⟩, hS.F ht⟩) hS.2.2 dJ28_getChars_194
            · have hw8 := ng_gt9 hw31 c_161
              have hDD : 2 * kt + 2 = sb_dg v := gB_e2 hd1 hd2 hw8 hw9
              refine lv_aload_n hx hb dJ28_getChars_164 rfl (lv_at hl 3 rfl) ?_
              refine lv_iinc (v := nI (n + sb_dg v - 2 * kt - 2)) (lv' := [(7, .int (nI (n + sb_dg v - 2 * kt - 2))), (0, .long (-(lN v))), (2, .int (nI (n + sb_dg v))), (3, .ref bv), (8, .int (nI 0)), (10, .int (-nI (v / 10 ^ (2 * kt))))]) hx hb dJ28_getChars_165 hl (k := 0) rfl (n_dec (by omega)) (by decide) rfl (fun ls hl => ?_)
              refine lv_iload hx hb dJ28_getChars_168 (lv_at hl 0 rfl) ?_
              refine va_gets (v := .ref (σ 62)) hx hb (hG.Z Z Y2.2.2.2.1.1) hS hown (hts _ q1954) (fun _ h9 => h9) dJ28_getChars_170 ?_
              refine lv_iload hx hb dJ28_getChars_173 (lv_at hl 5 rfl) ?_
              refine lv_ineg hx hb dJ28_getChars_175 ?_
              refine e_i (y := nI (v / 10 ^ (2 * kt))) (by rw [Int32.neg_neg]) ?_
              refine a_bald hx hb hK (hR1.up hS) 0 2 rfl rfl (by omega) (by omega) dJ28_getChars_176 ?_
              refine a_bast hx hb hK hP hD hS 0 2 rfl rfl (by omega) (by omega) dJ28_getChars_177 (fun H locs hP hD hS => ?_)
              have hP : va_P (dC, dI) vwCl [(bv, .inl (dA 2, bm, .inl (upd (gB f n v (2 * kt + 1)) (n + sb_dg v - 2 * kt - 2) (vp_nar .byte ((fun k => nI (48 + k / 10)) (v / 10 ^ (2 * kt)))))))] H := hP
              have hD : va_D A [(bv, .inl (dA 2, bm, .inl (upd (gB f n v (2 * kt + 1)) (n + sb_dg v - 2 * kt - 2) (vp_nar .byte ((fun k => nI (48 + k / 10)) (v / 10 ^ (2 * kt)))))))] := hD
              have e9 : (upd (gB f n v (2 * kt + 1)) (n + sb_dg v - 2 * kt - 2) (vp_nar .byte ((fun k => nI (48 + k / 10)) (v / 10 ^ (2 * kt)))) : Nat → Int32) = (gB f n v (sb_dg v)) := (gB_s (k := 2 * kt + 1) (by omega) (by omega) (gB_4 hw9)).trans (by rw [show 2 * kt + 1 + 1 = sb_dg v from hDD])
              rw [e9] at hP hD; clear e9
              refine lv_iload hx hb dJ28_getChars_178 (lv_at hl 4 rfl) ?_
              refine lv_if_eq (tgt := 192) hx hb dJ28_getChars_180 (by decide) (fun c_180 => ?_) (fun c_180 => ?_)
              rotate_left
              · exact absurd (by decide) c_180
              refine lv_iload hx hb dJ28_getChars_192 (lv_at hl 0 rfl) ?_
              subst hQe
              exact W.iret (v := nI (n + sb_dg v - 2 * kt - 2)) hx hb hr (fun tz ht hW => ⟨⟨_, (), rfl, trivial, B1_at ht (hP.sub [0] rfl) (hD.sub [0] (by decide) rfl) trivial⟩, hS.F ht⟩) hS.2.2 dJ28_getChars_194
          · have hw9 : 100 ≤ v / 10 ^ (2 * kt) := ng_nlt hw31 c_90
            have hk2 : 2 * (kt + 1) < sb_dg v := gB_more hd1 hd2 hw9
            refine lv_iload hx hb dJ28_getChars_93 (lv_at hl 5 rfl) ?_
            refine lv_bipush (v := nI 100) hx hb dJ28_getChars_95 (by decide) ?_
            refine lv_idiv hx hb dJ28_getChars_97 (nI_ne0 (n := 100) (by omega) (by omega)) ?_
            refine e_i (y := -nI (v / 10 ^ (2 * kt) / 100)) (ng_div hw31) ?_
            refine lv_istore (lv' := [(9, .int (-nI (v / 10 ^ (2 * kt) / 100))), (0, .long (-(lN v))), (2, .int (nI (n + sb_dg v))), (3, .ref bv), (7, .int (nI (n + sb_dg v - 2 * kt))), (8, .int (nI 0)), (10, .int (-nI (v / 10 ^ (2 * kt))))]) hx hb dJ28_getChars_98 hl (by decide) rfl (fun ls hl => ?_)
            refine lv_iload hx hb dJ28_getChars_100 (lv_at hl 0 rfl) ?_
            refine lv_bipush (v := nI 100) hx hb dJ28_getChars_102 (by decide) ?_
            refine lv_imul hx hb dJ28_getChars_104 ?_
            refine lv_iload hx hb dJ28_getChars_105 (lv_at hl 6 rfl) ?_
            refine lv_isub hx hb dJ28_getChars_107 ?_
            refine e_i (y := nI (v / 10 ^ (2 * kt) % 100)) (ng_rem hw31) ?_
            refine lv_istore (lv' := [(6, .int (nI (v / 10 ^ (2 * kt) % 100))), (9, .int (-nI (v / 10 ^ (2 * kt) / 100))), (0, .long (-(lN v))), (2, .int (nI (n + sb_dg v))), (3, .ref bv), (7, .int (nI (n + sb_dg v - 2 * kt))), (8, .int (nI 0)), (10, .int (-nI (v / 10 ^ (2 * kt))))]) hx hb dJ28_getChars_108 hl (by decide) rfl (fun ls hl => ?_)
            refine lv_iload hx hb dJ28_getChars_110 (lv_at hl 1 rfl) ?_
            refine lv_istore (lv' := [(10, .int (-nI (v / 10 ^ (2 * kt) / 100))), (6, .int (nI (v / 10 ^ (2 * kt) % 100))), (9, .int (-nI (v / 10 ^ (2 * kt) / 100))), (0, .long (-(lN v))), (2, .int (nI (n + sb_dg v))), (3, .ref bv), (7, .int (nI (n + sb_dg v - 2 * kt))), (8, .int (nI 0))]) hx hb dJ28_getChars_112 hl (by decide) rfl (fun ls hl => ?_)
            refine lv_aload_n hx hb dJ28_getChars_114 rfl (lv_at hl 5 rfl) ?_
            refine lv_iinc (v := nI (n + sb_dg v - 2 * kt - 1)) (lv' := [(7, .int (nI (n + sb_dg v - 2 * kt - 1))), (10, .int (-nI (v / 10 ^ (2 * kt) / 100))), (6, .int (nI (v / 10 ^ (2 * kt) % 100))), (9, .int (-nI (v / 10 ^ (2 * kt) / 100))), (0, .long (-(lN v))), (2, .int (nI (n + sb_dg v))), (3, .ref bv), (8, .int (nI 0))]) hx hb dJ28_getChars_115 hl (k := 6) rfl (n_dec (by omega)) (by decide) rfl (fun ls hl => ?_)
            refine lv_iload hx hb dJ28_getChars_118 (lv_at hl 0 rfl) ?_
            refine va_gets (v := .ref (σ 61)) hx hb (hG.Z Z Y2.2.2.1.1) hS hown (hts _ q1953) (fun _ h9 => h9) dJ28_getChars_120 ?_
            refine lv_iload hx hb dJ28_getChars_123 (lv_at hl 2 rfl) ?_
            refine a_bald hx hb hK (hR0.up hS) 0 2 rfl rfl (by omega) (by omega) dJ28_getChars_125 ?_
            refine a_bast hx hb hK hP hD hS 0 2 rfl rfl (by omega) (by omega) dJ28_getChars_126 (fun H locs hP hD hS => ?_)
            have hP : va_P (dC, dI) vwCl [(bv, .inl (dA 2, bm, .inl (upd (gB f n v (2 * kt)) (n + sb_dg v - 2 * kt - 1) (vp_nar .byte ((fun k => nI (48 + k % 10)) (v / 10 ^ (2 * kt) % 100))))))] H := hP
            have hD : va_D A [(bv, .inl (dA 2, bm, .inl (upd (gB f n v (2 * kt)) (n + sb_dg v - 2 * kt - 1) (vp_nar .byte ((fun k => nI (48 + k % 10)) (v / 10 ^ (2 * kt) % 100))))))] := hD
            have e9 : (upd (gB f n v (2 * kt)) (n + sb_dg v - 2 * kt - 1) (vp_nar .byte ((fun k => nI (48 + k % 10)) (v / 10 ^ (2 * kt) % 100))) : Nat → Int32) = (gB f n v (2 * kt + 1)) := gB_s (by omega) (by omega) (gB_1)
            rw [e9] at hP hD; clear e9
            refine lv_aload_n hx hb dJ28_getChars_127 rfl (lv_at hl 6 rfl) ?_
            refine lv_iinc (v := nI (n + sb_dg v - 2 * (kt + 1))) (lv' := [(7, .int (nI (n + sb_dg v - 2 * (kt + 1)))), (10, .int (-nI (v / 10 ^ (2 * kt) / 100))), (6, .int (nI (v / 10 ^ (2 * kt) % 100))), (9, .int (-nI (v / 10 ^ (2 * kt) / 100))), (0, .long (-(lN v))), (2, .int (nI (n + sb_dg v))), (3, .ref bv), (8, .int (nI 0))]) hx hb dJ28_getChars_128 hl (k := 0) rfl (n_dec (by omega)) (by decide) rfl (fun ls hl => ?_)
            refine lv_iload hx hb dJ28_getChars_131 (lv_at hl 0 rfl) ?_
            refine va_gets (v := .ref (σ 62)) hx hb (hG.Z Z Y2.2.2.2.1.1) hS hown (hts _ q1954) (fun _ h9 => h9) dJ28_getChars_133 ?_
            refine lv_iload hx hb dJ28_getChars_136 (lv_at hl 2 rfl) ?_
            refine a_bald hx hb hK (hR1.up hS) 0 2 rfl rfl (by omega) (by omega) dJ28_getChars_138 ?_
            refine a_bast hx hb hK hP hD hS 0 2 rfl rfl (by omega) (by omega) dJ28_getChars_139 (fun H locs hP hD hS => ?_)
            have hP : va_P (dC, dI) vwCl [(bv, .inl (dA 2, bm, .inl (upd (gB f n v (2 * kt + 1)) (n + sb_dg v - 2 * (kt + 1)) (vp_nar .byte ((fun k => nI (48 + k / 10)) (v / 10 ^ (2 * kt) % 100))))))] H := hP
            have hD : va_D A [(bv, .inl (dA 2, bm, .inl (upd (gB f n v (2 * kt + 1)) (n + sb_dg v - 2 * (kt + 1)) (vp_nar .byte ((fun k => nI (48 + k / 10)) (v / 10 ^ (2 * kt) % 100))))))] := hD
            have e9 : (upd (gB f n v (2 * kt + 1)) (n + sb_dg v - 2 * (kt + 1)) (vp_nar .byte ((fun k => nI (48 + k / 10)) (v / 10 ^ (2 * kt) % 100))) : Nat → Int32) = (gB f n v (2 * (kt + 1))) := gB_s (k := 2 * kt + 1) (by omega) (by omega) (gB_2)
            rw [e9] at hP hD; clear e9
            have hl : lv_has ls 11 [(7, .int (nI (n + sb_dg v - 2 * (kt + 1)))), (10, .int (-nI (v / 10 ^ (2 * (kt + 1))))), (6, .int (nI (v / 10 ^ (2 * kt) % 100))), (9, .int (-nI (v / 10 ^ (2 * kt) / 100))), (0, .long (-(lN v))), (2, .int (nI (n + sb_dg v))), (3, .ref bv), (8, .int (nI 0))] := by rw [show -nI (v / 10 ^ (2 * (kt + 1))) = -nI (v / 10 ^ (2 * kt) / 100) from congrArg (fun z => -nI z) gB_w]; exact hl
            refine lv_goto (tgt := 86) hx hb dJ28_getChars_140 (by decide) ?_
            exact ih_1 (kt + 1) H locs ls (by omega) hk2 (hP.sub [0] rfl) (hD.sub [0] (by decide) rfl) hS (lv_sub hl [4, 5, 6, 0, 7, 1] rfl)
      exact loop_1 _ 0 s.heap [] ls (Nat.lt_succ_self _) (by omega) hP hD hS (lv_sub hl [1, 4, 5, 3, 2, 0] rfl)
    · have c_29 : ¬ (-2147483648 : Int64) < (-(lN v)) := fun h => c_29 ((lg_cmp_gt _ _).mpr h)
      exact absurd (l_gtm (by omega)) c_29
  · have c_6 : ¬ 0 ≤ (lN v) := fun h => c_6 ((lg_cmp_ge _ _).mpr h)
    exact absurd (l_ge0 (by omega)) c_6
