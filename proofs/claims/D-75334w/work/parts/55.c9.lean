/-! the algebra's own signs -/
/-- squares of the vectors that two blades share, of the first k -/
def itsN (p q a b : Nat) : Nat → Int32
  | 0 => nI 1
  | k + 1 => if b / 2 ^ k &&& 1 = 1 ∧ a / 2 ^ k &&& 1 = 1 then itsN p q a b k * sqV p q k else itsN p q a b k
theorem bitT {x k : Nat} : x / 2 ^ k &&& 1 = 1 ↔ x.testBit k = true := by
  rw [Nat.testBit_eq_decide_div_mod_eq, decide_eq_true_iff, Nat.and_one_is_mod]
theorem and_bit {a b k : Nat} : (a &&& b) / 2 ^ k &&& 1 = 1 ↔ (b / 2 ^ k &&& 1 = 1 ∧ a / 2 ^ k &&& 1 = 1) := by
  rw [bitT, bitT, bitT, Nat.testBit_and, Bool.and_eq_true, and_comm]
theorem sgn_its (p q a b : Nat) : ∀ k, sgnM p q a b k = ordS a b * itsN p q a b k
  | 0 => (Int32.mul_one _).symm
  | k + 1 => by
    show (if (a &&& b) / 2 ^ k &&& 1 = 1 then sgnM p q a b k * sqV p q k else sgnM p q a b k) = ordS a b * (if b / 2 ^ k &&& 1 = 1 ∧ a / 2 ^ k &&& 1 = 1 then itsN p q a b k * sqV p q k else itsN p q a b k)
    by_cases h : (a &&& b) / 2 ^ k &&& 1 = 1
    · rw [if_pos h, if_pos (and_bit.mp h), sgn_its p q a b k, Int32.mul_assoc]
    · rw [if_neg h, if_neg (fun c => h (and_bit.mpr c)), sgn_its p q a b k]
theorem bit_hi {b k n : Nat} (h : b < 2 ^ n) (hk : n ≤ k) : b / 2 ^ k = 0 := Nat.div_eq_of_lt (Nat.lt_of_lt_of_le h (Nat.pow_le_pow_right (by decide) hk))
theorem swp_up {a b n : Nat} (h : b < 2 ^ n) : ∀ d, swp a b (n + d) = swp a b n
  | 0 => rfl
  | d + 1 => by
    show swp a b (n + d) + (if b / 2 ^ (n + d) &&& 1 = 1 then popc (a / 2 ^ (n + d + 1)) else 0) = _
    rw [bit_hi h (by omega), if_neg (by decide), swp_up h d, Nat.add_zero]
theorem swp_5 {a b p q r : Nat} (hn : p + q + r ≤ 5) (h : b < 2 ^ (p + q + r)) : swp a b (p + q + r) = swp a b 5 := by
  have := swp_up (a := a) h (5 - (p + q + r))
  rw [show p + q + r + (5 - (p + q + r)) = 5 by omega] at this
  exact this.symm
theorem neg_one_mul (x : Int32) : (-1) * x = -x := by
  rw [show (-1 : Int32) = -(1 : Int32) from rfl, Int32.neg_mul, Int32.one_mul]
theorem its_even {a b p q r : Nat} (hn : p + q + r ≤ 5) (h : b < 2 ^ (p + q + r)) (c : swp a b (p + q + r) % 2 = 0) : itsN p q a b (p + q + r) = sgS p q r a b := by
  unfold sgS; rw [sgn_its]; unfold ordS
  rw [← swp_5 hn h, if_pos c, show nI 1 = (1 : Int32) from rfl, Int32.one_mul]
theorem its_odd {a b p q r : Nat} (hn : p + q + r ≤ 5) (h : b < 2 ^ (p + q + r)) (c : ¬ swp a b (p + q + r) % 2 = 0) : -(itsN p q a b (p + q + r)) = sgS p q r a b := by
  unfold sgS; rw [sgn_its]; unfold ordS
  rw [← swp_5 hn h, if_neg c, neg_one_mul]
theorem i2l_le {x y : Int32} : (x.toInt64 ≤ y.toInt64) ↔ x ≤ y := by
  rw [Int64.le_iff_toInt_le, Int32.le_iff_toInt_le, i2l_toInt, i2l_toInt]
theorem inL_B (v lo hi : Int32) : inL v.toInt64 lo.toInt64 hi.toInt64 = inB v lo hi := by
  unfold inL inB
  rw [decide_eq_decide.mpr (i2l_le (x := lo) (y := v)), decide_eq_decide.mpr (i2l_le (x := v) (y := hi))]
theorem blB_L {p q r : Nat} (_hn : p + q + r ≤ 5) {b : Int32} : bI (inL b.toInt64 0 (nI (2 ^ (p + q + r) - 1)).toInt64) = bI (blB p q r b) :=
  congrArg bI (inL_B b (nI 0) (nI (2 ^ (p + q + r) - 1)))
theorem full_full {p q r a : Nat} : fullN p q r ^^^ (fullN p q r ^^^ a) = a := xor_cancel _ _
theorem cmp_st {p q r : Nat} (hn : p + q + r ≤ 5) {M : MV} {a : Nat} (ha : a < 2 ^ (p + q + r)) : vp_updL (trnP (if true = true then 4 else 3) p q r M a) ((2 ^ (p + q + r) - 1) ^^^ a) ((ordS ((2 ^ (p + q + r) - 1) ^^^ a) a).toInt64 * M (a + 1)) = trnP (if true = true then 4 else 3) p q r M (a + 1) := by
  refine trnP_s (k := fullN p q r ^^^ a) hn ha rfl ?_
  show _ = (ordS (fullN p q r ^^^ a) (fullN p q r ^^^ (fullN p q r ^^^ a))).toInt64 * M (a + 1)
  rw [full_full]; rfl
theorem cmp_sf {p q r : Nat} (hn : p + q + r ≤ 5) {M : MV} {a : Nat} (ha : a < 2 ^ (p + q + r)) : vp_updL (trnP (if false = true then 4 else 3) p q r M a) ((2 ^ (p + q + r) - 1) ^^^ a) ((ordS a ((2 ^ (p + q + r) - 1) ^^^ a)).toInt64 * M (a + 1)) = trnP (if false = true then 4 else 3) p q r M (a + 1) := by
  refine trnP_s (k := fullN p q r ^^^ a) hn ha rfl ?_
  show _ = (ordS (fullN p q r ^^^ (fullN p q r ^^^ a)) (fullN p q r ^^^ a)).toInt64 * M (a + 1)
  rw [full_full]; rfl
set_option maxHeartbeats 4000000 in
theorem x5_signOf {l : Launch} {dC : Nat → ClassId} {dI : Nat → Nat → Nat} {dA : Nat → ClassId} {s0 : State} {b0 : Addr} (Z : Z0 l dC dI dA s0 b0) {σ : Nat → Nat} (Y : SS (dC, dI) dA σ s0) (ga sg : Nat) (sr : Nat → Nat) (p0 q0 r0 : Nat) (a b : Nat) (hn : p0 + q0 + r0 ≤ 5) (ha8 : a < 32) (hb8 : b < 2 ^ (p0 + q0 + r0)) : Met l yX5_signOf (ws_ yX5_signOf cX5_signOf 6 (some .int)) ({ frames := 2, cells := 0, slots := 0, locals := 120 } : Room) (gP [.ref ga, .int (nI a), .int (nI b)] s0 (fun _ => False) (fun H => va_P (dC, dI) vwCl [(ga, .inr (1, [.int (nI p0), .int (nI q0), .int (nI r0), .int (nI (p0 + q0 + r0)), .int (nI (2 ^ (p0 + q0 + r0) - 1)), .ref sg]))] H)) (vp_Si (fun r => r = sgS p0 q0 r0 a b)) 0 0 (fun _ => False) := by
  refine Met.ofW (cc := cX5_signOf) (maxL := 6) (ret := (some .int)) (by decide) rfl ?_
  intro p e s m args below meth c s₁ B hml hv
  obtain ⟨hav, hG, hP⟩ := hv
  have hx := B.exec
  have hb := B.bytes
  have hr := B.returns
  have hts := atoms_spec (ws := (ws_ yX5_signOf cX5_signOf 6 (some .int))) B.pre
  have hts : ∀ w ∈ lw_all, w.before _ s = true := fun w h => hts w (List.mem_cons_of_mem _ h)
  have hown : s.vm.findClass RX5 = some m.cls := findClass_of_methodNamed B.named
  have hlocks := B.notSynchronized
  have hK := hG.K Z
  have hS : va_S (fun _ => False) s.heap s.heap [] := va_S.rf
  have hl := lv_entry ([.ref ga, .int (nI a), .int (nI b)]) (n := 6) (Nat.le_of_ble_eq_true rfl)
  rw [show entryFrame m args 6 = entryFrame m ([.ref ga, .int (nI a), .int (nI b)] : List Value).toArray 6 from by rw [hav], lg_entry_eq]
  generalize (lg_sl ([.ref ga, .int (nI a), .int (nI b)]) ++ List.replicate (6 - (lg_sl ([.ref ga, .int (nI a), .int (nI b)])).length) Slot.unset).toArray = ls at hl ⊢
  have hl : lv_has ls 6 [(0, .ref ga), (1, .int (nI a)), (2, .int (nI b))] := hl
  generalize hQe : MQ below _ _ s _ _ _ = Q
  change W p l e ({ frames := 2, cells := 0, slots := 0, locals := 120 } : Room) s m args below meth c s.heap [] 0 0 Q (F0 m 0 ls [])
  obtain ⟨gr, Yg⟩ : ∃ g, SG (dC, dI) dA g s0 := ⟨_, SS.gr Y⟩
  have hR0 := hG.RO Yg.2
  have h5 := pow5 hn
  have haq : ∀ k, a / 2 ^ k < 32 := fun k => Nat.lt_of_le_of_lt (Nat.div_le_self _ _) (by omega)
  refine lv_iconst (v := nI 0) hx hb dX5_signOf_0 (by decide) ?_
  refine lv_istore_n (lv' := [(3, .int (nI 0)), (0, .ref ga), (1, .int (nI a)), (2, .int (nI b))]) hx hb dX5_signOf_1 rfl hl (by decide) rfl (fun ls hl => ?_)
  refine lv_iconst (v := nI 1) hx hb dX5_signOf_2 (by decide) ?_
  refine lv_istore (lv' := [(4, .int (nI 1)), (3, .int (nI 0)), (0, .ref ga), (1, .int (nI a)), (2, .int (nI b))]) hx hb dX5_signOf_3 hl (by decide) rfl (fun ls hl => ?_)
  refine lv_iconst (v := nI 0) hx hb dX5_signOf_5 (by decide) ?_
  refine lv_istore (lv' := [(5, .int (nI 0)), (4, .int (nI 1)), (3, .int (nI 0)), (0, .ref ga), (1, .int (nI a)), (2, .int (nI b))]) hx hb dX5_signOf_6 hl (by decide) rfl (fun ls hl => ?_)
  have loop_1 : ∀ (n9_1 : Nat) (k : Nat) (ls : Array Slot), p0 + q0 + r0 - k < n9_1 → (k ≤ p0 + q0 + r0) → lv_has ls 6 [(0, .ref ga), (1, .int (nI a)), (2, .int (nI b)), (3, .int (nI (swp a b k))), (4, .int (itsN p0 q0 a b k)), (5, .int (nI k))] → W p l e ({ frames := 2, cells := 0, slots := 0, locals := 120 } : Room) s m args below meth c s.heap [] 0 0 Q (F0 m 8 ls []) := by
    intro n9_1
    induction n9_1 with
    | zero => intro k ls hm_1; exact absurd hm_1 (Nat.not_lt_zero _)
    | succ n9_1 ih_1 =>
      intro k ls hm_1 hk9 hl
      have hc9 := swp_le (a := a) (by omega) b k
      refine lv_iload hx hb dX5_signOf_8 (lv_at hl 5 rfl) ?_
      refine lv_aload_n hx hb dX5_signOf_10 rfl (lv_at hl 0 rfl) ?_
      refine va_get (D := (dC, dI)) (ci := 1) (v := .int (nI (p0 + q0 + r0))) (C := RX5) (T := TX5) (N := 6) hx hb hts in_X5 hown hK hP 0 rfl rfl 3 (by decide) (hts _ q207) (fun _ h9 => h9) rfl dX5_signOf_11 ?_
      refine lv_icmp_ge (tgt := 95) hx hb dX5_signOf_14 (by decide) (fun c_14 => ?_) (fun c_14 => ?_)
      · have c_14 : (p0 + q0 + r0) ≤ k := (nI_leI (a := (p0 + q0 + r0)) (b := k) (by omega) (by omega)).mp c_14
        obtain rfl : k = p0 + q0 + r0 := by omega
        refine lv_iload_n hx hb dX5_signOf_95 rfl (lv_at hl 3 rfl) ?_
        refine lv_iconst (v := nI 2) hx hb dX5_signOf_96 (by decide) ?_
        refine lv_irem hx hb dX5_signOf_97 (nI_ne0 (n := 2) (by omega) (by omega)) ?_
        refine e_i (y := nI ((swp a b (p0 + q0 + r0)) % 2)) (pk_rem (by omega) (by omega) (by omega)) ?_
        refine lv_if_ne (tgt := 106) hx hb dX5_signOf_98 (by decide) (fun c_98 => ?_) (fun c_98 => ?_)
        · have c_98 : ¬ ((swp a b (p0 + q0 + r0)) % 2) = 0 := fun h => c_98 ((nI_eq (a := ((swp a b (p0 + q0 + r0)) % 2)) (b := 0) (by omega) (by omega)).mpr h)
          refine lv_iload hx hb dX5_signOf_106 (lv_at hl 4 rfl) ?_
          refine lv_ineg hx hb dX5_signOf_108 ?_
          subst hQe
          exact W.iret (v := -(itsN p0 q0 a b (p0 + q0 + r0))) hx hb hr (fun tz ht hW => ⟨_, rfl, (its_odd hn hb8 c_98), ht⟩) hS.2.2 dX5_signOf_109
        · have c_98 : ((swp a b (p0 + q0 + r0)) % 2) = 0 := (nI_eq (a := ((swp a b (p0 + q0 + r0)) % 2)) (b := 0) (by omega) (by omega)).mp c_98
          refine lv_iload hx hb dX5_signOf_101 (lv_at hl 4 rfl) ?_
          refine lv_goto (tgt := 109) hx hb dX5_signOf_103 (by decide) ?_
          subst hQe
          exact W.iret (v := itsN p0 q0 a b (p0 + q0 + r0)) hx hb hr (fun tz ht hW => ⟨_, rfl, (its_even hn hb8 c_98), ht⟩) hS.2.2 dX5_signOf_109
      · have c_14 : ¬ (p0 + q0 + r0) ≤ k := fun h => c_14 ((nI_leI (a := (p0 + q0 + r0)) (b := k) (by omega) (by omega)).mpr h)
        refine lv_iload_n hx hb dX5_signOf_17 rfl (lv_at hl 2 rfl) ?_
        refine lv_iload hx hb dX5_signOf_18 (lv_at hl 5 rfl) ?_
        refine lv_ishr hx hb dX5_signOf_20 ?_
        refine e_i (y := nI (b / 2 ^ k)) (n_shr (by omega) (by omega)) ?_
        refine lv_iconst (v := nI 1) hx hb dX5_signOf_21 (by decide) ?_
        refine lv_iand hx hb dX5_signOf_22 ?_
        refine e_i (y := nI ((b / 2 ^ k) &&& 1)) (n_and _ _) ?_
        refine lv_if_ne (tgt := 29) hx hb dX5_signOf_23 (by decide) (fun c_23 => ?_) (fun c_23 => ?_)
        · have c_23 : ¬ ((b / 2 ^ k) &&& 1) = 0 := fun h => c_23 ((nI_eq (a := ((b / 2 ^ k) &&& 1)) (b := 0) (Nat.lt_of_le_of_lt Nat.and_le_right (by decide)) (by omega)).mpr h)
          have hb9 : b / 2 ^ k &&& 1 = 1 := by have := @Nat.and_one_is_mod (b / 2 ^ k); omega
          refine lv_iload_n hx hb dX5_signOf_29 rfl (lv_at hl 3 rfl) ?_
          refine va_getsN (v := .ref gr) hx hb (hG.Z Z Yg.1) hS hown (((va_Nw.warmF hG.1 (va_Nw.of rfl (Z.2.1 _ q198)))).use rfl) (fun _ h9 => h9) dX5_signOf_30 ?_
          refine lv_iload_n hx hb dX5_signOf_33 rfl (lv_at hl 1 rfl) ?_
          refine lv_iload hx hb dX5_signOf_34 (lv_at hl 5 rfl) ?_
          refine lv_iconst (v := nI 1) hx hb dX5_signOf_36 (by decide) ?_
          refine lv_iadd hx hb dX5_signOf_37 ?_
          refine e_i (y := nI (k + 1)) (nI_add _ _) ?_
          refine lv_ishr hx hb dX5_signOf_38 ?_
          refine e_i (y := nI (a / 2 ^ (k + 1))) (n_shr (by omega) (by omega)) ?_
          refine a_iald hx hb hK (hR0.up hS) 0 0 rfl rfl (haq _) (by omega) dX5_signOf_39 ?_
          refine e_i (y := nI (popc (a / 2 ^ (k + 1)))) (rfl) ?_
          refine lv_iadd hx hb dX5_signOf_40 ?_
          refine e_i (y := nI (swp a b k + (popc (a / 2 ^ (k + 1))))) (nI_add _ _) ?_
          refine e_i (y := nI (swp a b (k + 1))) (n_eq (by show _ = swp a b k + (if b / 2 ^ k &&& 1 = 1 then popc (a / 2 ^ (k + 1)) else 0); rw [if_pos hb9])) ?_
          refine lv_istore_n (lv' := [(3, .int (nI (swp a b (k + 1)))), (0, .ref ga), (1, .int (nI a)), (2, .int (nI b)), (4, .int (itsN p0 q0 a b k)), (5, .int (nI k))]) hx hb dX5_signOf_41 rfl hl (by decide) rfl (fun ls hl => ?_)
          refine lv_iload_n hx hb dX5_signOf_42 rfl (lv_at hl 2 rfl) ?_
          refine lv_iload hx hb dX5_signOf_43 (lv_at hl 5 rfl) ?_
          refine lv_ishr hx hb dX5_signOf_45 ?_
          refine e_i (y := nI (a / 2 ^ k)) (n_shr (by omega) (by omega)) ?_
          refine lv_iconst (v := nI 1) hx hb dX5_signOf_46 (by decide) ?_
          refine lv_iand hx hb dX5_signOf_47 ?_
          refine e_i (y := nI ((a / 2 ^ k) &&& 1)) (n_and _ _) ?_
          refine lv_iconst (v := nI 1) hx hb dX5_signOf_48 (by decide) ?_
          refine lv_icmp_ne (tgt := 89) hx hb dX5_signOf_49 (by decide) (fun c_49 => ?_) (fun c_49 => ?_)
          · have c_49 : ¬ ((a / 2 ^ k) &&& 1) = 1 := fun h => c_49 ((nI_eq (a := ((a / 2 ^ k) &&& 1)) (b := 1) (Nat.lt_of_le_of_lt Nat.and_le_right (by decide)) (by omega)).mpr h)
            have hl : lv_has ls 6 [(3, .int (nI (swp a b (k + 1)))), (0, .ref ga), (1, .int (nI a)), (2, .int (nI b)), (4, .int (itsN p0 q0 a b (k + 1))), (5, .int (nI k))] := by rw [show itsN p0 q0 a b (k + 1) = itsN p0 q0 a b k from (show (if b / 2 ^ k &&& 1 = 1 ∧ a / 2 ^ k &&& 1 = 1 then itsN p0 q0 a b k * sqV p0 q0 k else itsN p0 q0 a b k) = _ from if_neg (by omega))]; exact hl
            refine lv_iinc (v := nI (k + 1)) (lv' := [(5, .int (nI (k + 1))), (3, .int (nI (swp a b (k + 1)))), (0, .ref ga), (1, .int (nI a)), (2, .int (nI b)), (4, .int (itsN p0 q0 a b (k + 1)))]) hx hb dX5_signOf_89 hl (k := 5) rfl (by exact nI_add _ 1) (by decide) rfl (fun ls hl => ?_)
            refine lv_goto (tgt := 8) hx hb dX5_signOf_92 (by decide) ?_
            exact ih_1 (k + 1) ls (by omega) (by omega) (lv_sub hl [2, 3, 4, 1, 5, 0] rfl)
          · have c_49 : ((a / 2 ^ k) &&& 1) = 1 := (nI_eq (a := ((a / 2 ^ k) &&& 1)) (b := 1) (Nat.lt_of_le_of_lt Nat.and_le_right (by decide)) (by omega)).mp c_49
            refine lv_iload hx hb dX5_signOf_52 (lv_at hl 4 rfl) ?_
            refine lv_iload hx hb dX5_signOf_54 (lv_at hl 5 rfl) ?_
            refine lv_aload_n hx hb dX5_signOf_56 rfl (lv_at hl 1 rfl) ?_
            refine va_get (D := (dC, dI)) (ci := 1) (v := .int (nI p0)) (C := RX5) (T := TX5) (N := 6) hx hb hts in_X5 hown hK hP 0 rfl rfl 0 (by decide) (hts _ q200) (fun _ h9 => h9) rfl dX5_signOf_57 ?_
            refine lv_icmp_ge (tgt := 67) hx hb dX5_signOf_60 (by decide) (fun c_60 => ?_) (fun c_60 => ?_)
            · have c_60 : p0 ≤ k := (nI_leI (a := p0) (b := k) (by omega) (by omega)).mp c_60
              refine lv_iload hx hb dX5_signOf_67 (lv_at hl 5 rfl) ?_
              refine lv_aload_n hx hb dX5_signOf_69 rfl (lv_at hl 1 rfl) ?_
              refine va_get (D := (dC, dI)) (ci := 1) (v := .int (nI p0)) (C := RX5) (T := TX5) (N := 6) hx hb hts in_X5 hown hK hP 0 rfl rfl 0 (by decide) (hts _ q200) (fun _ h9 => h9) rfl dX5_signOf_70 ?_
              refine lv_aload_n hx hb dX5_signOf_73 rfl (lv_at hl 1 rfl) ?_
              refine va_get (D := (dC, dI)) (ci := 1) (v := .int (nI q0)) (C := RX5) (T := TX5) (N := 6) hx hb hts in_X5 hown hK hP 0 rfl rfl 1 (by decide) (hts _ q202) (fun _ h9 => h9) rfl dX5_signOf_74 ?_
              refine lv_iadd hx hb dX5_signOf_77 ?_
              refine e_i (y := nI (p0 + q0)) (nI_add _ _) ?_
              refine lv_icmp_ge (tgt := 85) hx hb dX5_signOf_78 (by decide) (fun c_78 => ?_) (fun c_78 => ?_)
              · have c_78 : (p0 + q0) ≤ k := (nI_leI (a := (p0 + q0)) (b := k) (by omega) (by omega)).mp c_78
                refine lv_iconst (v := nI 0) hx hb dX5_signOf_85 (by decide) ?_
                refine lv_imul hx hb dX5_signOf_86 ?_
                refine e_i (y := itsN p0 q0 a b (k + 1)) ((show itsN p0 q0 a b k * nI 0 = (if b / 2 ^ k &&& 1 = 1 ∧ a / 2 ^ k &&& 1 = 1 then itsN p0 q0 a b k * sqV p0 q0 k else itsN p0 q0 a b k) from by rw [if_pos ⟨hb9, c_49⟩, sqV, if_neg (by omega), if_neg (by omega)])) ?_
                refine lv_istore (lv' := [(4, .int (itsN p0 q0 a b (k + 1))), (3, .int (nI (swp a b (k + 1)))), (0, .ref ga), (1, .int (nI a)), (2, .int (nI b)), (5, .int (nI k))]) hx hb dX5_signOf_87 hl (by decide) rfl (fun ls hl => ?_)
                refine lv_iinc (v := nI (k + 1)) (lv' := [(5, .int (nI (k + 1))), (4, .int (itsN p0 q0 a b (k + 1))), (3, .int (nI (swp a b (k + 1)))), (0, .ref ga), (1, .int (nI a)), (2, .int (nI b))]) hx hb dX5_signOf_89 hl (k := 5) rfl (by exact nI_add _ 1) (by decide) rfl (fun ls hl => ?_)
                refine lv_goto (tgt := 8) hx hb dX5_signOf_92 (by decide) ?_
                exact ih_1 (k + 1) ls (by omega) (by omega) (lv_sub hl [3, 4, 5, 2, 1, 0] rfl)
              · have c_78 : ¬ (p0 + q0) ≤ k := fun h => c_78 ((nI_leI (a := (p0 + q0)) (b := k) (by omega) (by omega)).mpr h)
                refine lv_iconst (v := (-1)) hx hb dX5_signOf_81 (by decide) ?_
                refine lv_goto (tgt := 86) hx hb dX5_signOf_82 (by decide) ?_
                refine lv_imul hx hb dX5_signOf_86 ?_
                refine e_i (y := itsN p0 q0 a b (k + 1)) ((show itsN p0 q0 a b k * (-1) = (if b / 2 ^ k &&& 1 = 1 ∧ a / 2 ^ k &&& 1 = 1 then itsN p0 q0 a b k * sqV p0 q0 k else itsN p0 q0 a b k) from by rw [if_pos ⟨hb9, c_49⟩, sqV, if_neg (by omega), if_pos (by omega)])) ?_
                refine lv_istore (lv' := [(4, .int (itsN p0 q0 a b (k + 1))), (3, .int (nI (swp a b (k + 1)))), (0, .ref ga), (1, .int (nI a)), (2, .int (nI b)), (5, .int (nI k))]) hx hb dX5_signOf_87 hl (by decide) rfl (fun ls hl => ?_)
                refine lv_iinc (v := nI (k + 1)) (lv' := [(5, .int (nI (k + 1))), (4, .int (itsN p0 q0 a b (k + 1))), (3, .int (nI (swp a b (k + 1)))), (0, .ref ga), (1, .int (nI a)), (2, .int (nI b))]) hx hb dX5_signOf_89 hl (k := 5) rfl (by exact nI_add _ 1) (by decide) rfl (fun ls hl => ?_)
                refine lv_goto (tgt := 8) hx hb dX5_signOf_92 (by decide) ?_
                exact ih_1 (k + 1) ls (by omega) (by omega) (lv_sub hl [3, 4, 5, 2, 1, 0] rfl)
            · have c_60 : ¬ p0 ≤ k := fun h => c_60 ((nI_leI (a := p0) (b := k) (by omega) (by omega)).mpr h)
              refine lv_iconst (v := nI 1) hx hb dX5_signOf_63 (by decide) ?_
              refine lv_goto (tgt := 86) hx hb dX5_signOf_64 (by decide) ?_
              refine lv_imul hx hb dX5_signOf_86 ?_
              refine e_i (y := itsN p0 q0 a b (k + 1)) ((show itsN p0 q0 a b k * nI 1 = (if b / 2 ^ k &&& 1 = 1 ∧ a / 2 ^ k &&& 1 = 1 then itsN p0 q0 a b k * sqV p0 q0 k else itsN p0 q0 a b k) from by rw [if_pos ⟨hb9, c_49⟩, sqV, if_pos (by omega)])) ?_
              refine lv_istore (lv' := [(4, .int (itsN p0 q0 a b (k + 1))), (3, .int (nI (swp a b (k + 1)))), (0, .ref ga), (1, .int (nI a)), (2, .int (nI b)), (5, .int (nI k))]) hx hb dX5_signOf_87 hl (by decide) rfl (fun ls hl => ?_)
              refine lv_iinc (v := nI (k + 1)) (lv' := [(5, .int (nI (k + 1))), (4, .int (itsN p0 q0 a b (k + 1))), (3, .int (nI (swp a b (k + 1)))), (0, .ref ga), (1, .int (nI a)), (2, .int (nI b))]) hx hb dX5_signOf_89 hl (k := 5) rfl (by exact nI_add _ 1) (by decide) rfl (fun ls hl => ?_)
              refine lv_goto (tgt := 8) hx hb dX5_signOf_92 (by decide) ?_
              exact ih_1 (k + 1) ls (by omega) (by omega) (lv_sub hl [3, 4, 5, 2, 1, 0] rfl)
        · have c_23 : ((b / 2 ^ k) &&& 1) = 0 := (nI_eq (a := ((b / 2 ^ k) &&& 1)) (b := 0) (Nat.lt_of_le_of_lt Nat.and_le_right (by decide)) (by omega)).mp c_23
          have hb9 : b / 2 ^ k &&& 1 = 0 := c_23
          have hl : lv_has ls 6 [(0, .ref ga), (1, .int (nI a)), (2, .int (nI b)), (3, .int (nI (swp a b (k + 1)))), (4, .int (itsN p0 q0 a b k)), (5, .int (nI k))] := by rw [show nI (swp a b (k + 1)) = nI (swp a b k) from n_eq (by show swp a b k + (if b / 2 ^ k &&& 1 = 1 then popc (a / 2 ^ (k + 1)) else 0) = _; rw [if_neg (by omega), Nat.add_zero])]; exact hl
          have hl : lv_has ls 6 [(0, .ref ga), (1, .int (nI a)), (2, .int (nI b)), (3, .int (nI (swp a b (k + 1)))), (4, .int (itsN p0 q0 a b (k + 1))), (5, .int (nI k))] := by rw [show itsN p0 q0 a b (k + 1) = itsN p0 q0 a b k from (show (if b / 2 ^ k &&& 1 = 1 ∧ a / 2 ^ k &&& 1 = 1 then itsN p0 q0 a b k * sqV p0 q0 k else itsN p0 q0 a b k) = _ from if_neg (by omega))]; exact hl
          refine lv_goto (tgt := 89) hx hb dX5_signOf_26 (by decide) ?_
          refine lv_iinc (v := nI (k + 1)) (lv' := [(5, .int (nI (k + 1))), (0, .ref ga), (1, .int (nI a)), (2, .int (nI b)), (3, .int (nI (swp a b (k + 1)))), (4, .int (itsN p0 q0 a b (k + 1)))]) hx hb dX5_signOf_89 hl (k := 5) rfl (by exact nI_add _ 1) (by decide) rfl (fun ls hl => ?_)
          refine lv_goto (tgt := 8) hx hb dX5_signOf_92 (by decide) ?_
          exact ih_1 (k + 1) ls (by omega) (by omega) (lv_sub hl [1, 2, 3, 4, 5, 0] rfl)
  exact loop_1 _ 0 ls (Nat.lt_succ_self _) (by omega) (lv_sub hl [3, 4, 5, 2, 1, 0] rfl)
set_option maxHeartbeats 4000000 in
theorem x5_isBlade1 {l : Launch} {dC : Nat → ClassId} {dI : Nat → Nat → Nat} {dA : Nat → ClassId} {s0 : State} {b0 : Addr} (Z : Z0 l dC dI dA s0 b0) {σ : Nat → Nat} (Y : SS (dC, dI) dA σ s0) (ga sg : Nat) (sr : Nat → Nat) (p0 q0 r0 : Nat) (b : Int32) (hn : p0 + q0 + r0 ≤ 5) : Met l yX5_isBlade (ws_ yX5_isBlade cX5_isBlade 2 (some .boolean)) ({ frames := 2, cells := 0, slots := 0, locals := 120 } : Room) (gP [.ref ga, .int b] s0 (fun _ => False) (fun H => va_P (dC, dI) vwCl [(ga, .inr (1, [.int (nI p0), .int (nI q0), .int (nI r0), .int (nI (p0 + q0 + r0)), .int (nI (2 ^ (p0 + q0 + r0) - 1)), .ref sg]))] H)) (vp_Si (fun r => r = bI (blB p0 q0 r0 b))) 0 0 (fun _ => False) := by
  refine Met.ofW (cc := cX5_isBlade) (maxL := 2) (ret := (some .boolean)) (by decide) rfl ?_
  intro p e s m args below meth c s₁ B hml hv
  obtain ⟨hav, hG, hP⟩ := hv
  have hx := B.exec
  have hb := B.bytes
  have hr := B.returns
  have hts := atoms_spec (ws := (ws_ yX5_isBlade cX5_isBlade 2 (some .boolean))) B.pre
  have hts : ∀ w ∈ lw_all, w.before _ s = true := fun w h => hts w (List.mem_cons_of_mem _ h)
  have hown : s.vm.findClass RX5 = some m.cls := findClass_of_methodNamed B.named
  have hlocks := B.notSynchronized
  have hK := hG.K Z
  have hS : va_S (fun _ => False) s.heap s.heap [] := va_S.rf
  have hl := lv_entry ([.ref ga, .int b]) (n := 2) (Nat.le_of_ble_eq_true rfl)
  rw [show entryFrame m args 2 = entryFrame m ([.ref ga, .int b] : List Value).toArray 2 from by rw [hav], lg_entry_eq]
  generalize (lg_sl ([.ref ga, .int b]) ++ List.replicate (2 - (lg_sl ([.ref ga, .int b])).length) Slot.unset).toArray = ls at hl ⊢
  have hl : lv_has ls 2 [(0, .ref ga), (1, .int b)] := hl
  generalize hQe : MQ below _ _ s _ _ _ = Q
  change W p l e ({ frames := 2, cells := 0, slots := 0, locals := 120 } : Room) s m args below meth c s.heap [] 0 0 Q (F0 m 0 ls [])
  have h5 := pow5 hn
  refine lv_iload_n hx hb dX5_isBlade_0 rfl (lv_at hl 1 rfl) ?_
  refine lv_i2l (v := b.toInt64) hx hb dX5_isBlade_1 rfl ?_
  refine lv_lconst (v := 0) hx hb dX5_isBlade_2 rfl ?_
  refine lv_aload_n hx hb dX5_isBlade_3 rfl (lv_at hl 0 rfl) ?_
  refine va_get (D := (dC, dI)) (ci := 1) (v := .int (nI (2 ^ (p0 + q0 + r0) - 1))) (C := RX5) (T := TX5) (N := 6) hx hb hts in_X5 hown hK hP 0 rfl rfl 4 (by decide) (hts _ q211) (fun _ h9 => h9) rfl dX5_isBlade_4 ?_
  refine lv_i2l (v := (nI (2 ^ (p0 + q0 + r0) - 1)).toInt64) hx hb dX5_isBlade_7 rfl ?_
  refine s_i (va_runSN (As := [.long b.toInt64, .long 0, .long ((nI (2 ^ (p0 + q0 + r0) - 1)).toInt64)]) (rest := []) ⟨hx, hb, hml, hown, hts⟩ (x1_isIn Z b.toInt64 0 ((nI (2 ^ (p0 + q0 + r0) - 1)).toInt64)) ⟨va_cnB 3 hts (lw_meth q334) rfl rfl rfl (va_Nw.warmM hG.1 (va_Nw.of rfl (Z.2.1 _ q497))) (hts _ q96) (by decide +kernel) ⟨Nat.le_of_ble_eq_true rfl, Nat.le_of_ble_eq_true rfl⟩, hts _ q333, trivial⟩ (gP_S hG hS (fun q _ h => h.elim) trivial) rfl rfl hl.1 rfl (lv_room (Nat.le_of_ble_eq_true rfl)) dX5_isBlade_8 ⟨by first | decide | omega, by first | decide | omega⟩) ?_
  refine e_i (y := bI (blB p0 q0 r0 b)) (blB_L hn) ?_
  subst hQe
  exact W.zret (v := bI (blB p0 q0 r0 b)) hx hb hr (bI_z _) (fun tz ht hW => ⟨_, rfl, rfl, ht⟩) hS.2.2 dX5_isBlade_11
set_option maxHeartbeats 4000000 in
theorem x5_outerSign {l : Launch} {dC : Nat → ClassId} {dI : Nat → Nat → Nat} {dA : Nat → ClassId} {s0 : State} {b0 : Addr} (Z : Z0 l dC dI dA s0 b0) {σ : Nat → Nat} (Y : SS (dC, dI) dA σ s0) (ga sg : Nat) (sr : Nat → Nat) (p0 q0 r0 : Nat) (a b : Nat) (hn : p0 + q0 + r0 ≤ 5) (ha8 : a < 32) (hb8 : b < 2 ^ (p0 + q0 + r0)) : Met l yX5_outerSign (ws_ yX5_outerSign cX5_outerSign 5 (some .int)) ({ frames := 2, cells := 0, slots := 0, locals := 120 } : Room) (gP [.ref ga, .int (nI a), .int (nI b)] s0 (fun _ => False) (fun H => va_P (dC, dI) vwCl [(ga, .inr (1, [.int (nI p0), .int (nI q0), .int (nI r0), .int (nI (p0 + q0 + r0)), .int (nI (2 ^ (p0 + q0 + r0) - 1)), .ref sg]))] H)) (vp_Si (fun r => r = ordS a b)) 0 0 (fun _ => False) := by
  refine Met.ofW (cc := cX5_outerSign) (maxL := 5) (ret := (some .int)) (by decide) rfl ?_
  intro p e s m args below meth c s₁ B hml hv
  obtain ⟨hav, hG, hP⟩ := hv
  have hx := B.exec
  have hb := B.bytes
  have hr := B.returns
  have hts := atoms_spec (ws := (ws_ yX5_outerSign cX5_outerSign 5 (some .int))) B.pre
  have hts : ∀ w ∈ lw_all, w.before _ s = true := fun w h => hts w (List.mem_cons_of_mem _ h)
  have hown : s.vm.findClass RX5 = some m.cls := findClass_of_methodNamed B.named
  have hlocks := B.notSynchronized
  have hK := hG.K Z
  have hS : va_S (fun _ => False) s.heap s.heap [] := va_S.rf
  have hl := lv_entry ([.ref ga, .int (nI a), .int (nI b)]) (n := 5) (Nat.le_of_ble_eq_true rfl)
  rw [show entryFrame m args 5 = entryFrame m ([.ref ga, .int (nI a), .int (nI b)] : List Value).toArray 5 from by rw [hav], lg_entry_eq]
  generalize (lg_sl ([.ref ga, .int (nI a), .int (nI b)]) ++ List.replicate (5 - (lg_sl ([.ref ga, .int (nI a), .int (nI b)])).length) Slot.unset).toArray = ls at hl ⊢
  have hl : lv_has ls 5 [(0, .ref ga), (1, .int (nI a)), (2, .int (nI b))] := hl
  generalize hQe : MQ below _ _ s _ _ _ = Q
  change W p l e ({ frames := 2, cells := 0, slots := 0, locals := 120 } : Room) s m args below meth c s.heap [] 0 0 Q (F0 m 0 ls [])
  obtain ⟨gr, Yg⟩ : ∃ g, SG (dC, dI) dA g s0 := ⟨_, SS.gr Y⟩
  have hR0 := hG.RO Yg.2
  have h5 := pow5 hn
  have haq : ∀ k, a / 2 ^ k < 32 := fun k => Nat.lt_of_le_of_lt (Nat.div_le_self _ _) (by omega)
  refine lv_iconst (v := nI 0) hx hb dX5_outerSign_0 (by decide) ?_
  refine lv_istore_n (lv' := [(3, .int (nI 0)), (0, .ref ga), (1, .int (nI a)), (2, .int (nI b))]) hx hb dX5_outerSign_1 rfl hl (by decide) rfl (fun ls hl => ?_)
  refine lv_iconst (v := nI 0) hx hb dX5_outerSign_2 (by decide) ?_
  refine lv_istore (lv' := [(4, .int (nI 0)), (3, .int (nI 0)), (0, .ref ga), (1, .int (nI a)), (2, .int (nI b))]) hx hb dX5_outerSign_3 hl (by decide) rfl (fun ls hl => ?_)
  have loop_1 : ∀ (n9_1 : Nat) (k : Nat) (ls : Array Slot), p0 + q0 + r0 - k < n9_1 → (k ≤ p0 + q0 + r0) → lv_has ls 5 [(0, .ref ga), (1, .int (nI a)), (2, .int (nI b)), (3, .int (nI (swp a b k))), (4, .int (nI k))] → W p l e ({ frames := 2, cells := 0, slots := 0, locals := 120 } : Room) s m args below meth c s.heap [] 0 0 Q (F0 m 5 ls []) := by
    intro n9_1
    induction n9_1 with
    | zero => intro k ls hm_1; exact absurd hm_1 (Nat.not_lt_zero _)
    | succ n9_1 ih_1 =>
      intro k ls hm_1 hk9 hl
      have hc9 := swp_le (a := a) (by omega) b k
      refine lv_iload hx hb dX5_outerSign_5 (lv_at hl 4 rfl) ?_
      refine lv_aload_n hx hb dX5_outerSign_7 rfl (lv_at hl 0 rfl) ?_
      refine va_get (D := (dC, dI)) (ci := 1) (v := .int (nI (p0 + q0 + r0))) (C := RX5) (T := TX5) (N := 6) hx hb hts in_X5 hown hK hP 0 rfl rfl 3 (by decide) (hts _ q207) (fun _ h9 => h9) rfl dX5_outerSign_8 ?_
      refine lv_icmp_ge (tgt := 47) hx hb dX5_outerSign_11 (by decide) (fun c_11 => ?_) (fun c_11 => ?_)
      · have c_11 : (p0 + q0 + r0) ≤ k := (nI_leI (a := (p0 + q0 + r0)) (b := k) (by omega) (by omega)).mp c_11
        obtain rfl : k = p0 + q0 + r0 := by omega
        have hsw := swp_5 (a := a) hn hb8
        refine lv_iload_n hx hb dX5_outerSign_47 rfl (lv_at hl 3 rfl) ?_
        refine lv_iconst (v := nI 2) hx hb dX5_outerSign_48 (by decide) ?_
        refine lv_irem hx hb dX5_outerSign_49 (nI_ne0 (n := 2) (by omega) (by omega)) ?_
        refine e_i (y := nI ((swp a b (p0 + q0 + r0)) % 2)) (pk_rem (by omega) (by omega) (by omega)) ?_
        refine lv_if_ne (tgt := 57) hx hb dX5_outerSign_50 (by decide) (fun c_50 => ?_) (fun c_50 => ?_)
        · have c_50 : ¬ ((swp a b (p0 + q0 + r0)) % 2) = 0 := fun h => c_50 ((nI_eq (a := ((swp a b (p0 + q0 + r0)) % 2)) (b := 0) (by omega) (by omega)).mpr h)
          refine lv_iconst (v := (-1)) hx hb dX5_outerSign_57 (by decide) ?_
          subst hQe
          exact W.iret (v := (-1)) hx hb hr (fun tz ht hW => ⟨_, rfl, (by unfold ordS; rw [← hsw, if_neg c_50]), ht⟩) hS.2.2 dX5_outerSign_58
        · have c_50 : ((swp a b (p0 + q0 + r0)) % 2) = 0 := (nI_eq (a := ((swp a b (p0 + q0 + r0)) % 2)) (b := 0) (by omega) (by omega)).mp c_50
          refine lv_iconst (v := nI 1) hx hb dX5_outerSign_53 (by decide) ?_
          refine lv_goto (tgt := 58) hx hb dX5_outerSign_54 (by decide) ?_
          subst hQe
          exact W.iret (v := nI 1) hx hb hr (fun tz ht hW => ⟨_, rfl, (by unfold ordS; rw [← hsw, if_pos c_50]), ht⟩) hS.2.2 dX5_outerSign_58
      · have c_11 : ¬ (p0 + q0 + r0) ≤ k := fun h => c_11 ((nI_leI (a := (p0 + q0 + r0)) (b := k) (by omega) (by omega)).mpr h)
        refine lv_iload_n hx hb dX5_outerSign_14 rfl (lv_at hl 3 rfl) ?_
        refine lv_iload_n hx hb dX5_outerSign_15 rfl (lv_at hl 2 rfl) ?_
        refine lv_iload hx hb dX5_outerSign_16 (lv_at hl 4 rfl) ?_
        refine lv_ishr hx hb dX5_outerSign_18 ?_
        refine e_i (y := nI (b / 2 ^ k)) (n_shr (by omega) (by omega)) ?_
        refine lv_iconst (v := nI 1) hx hb dX5_outerSign_19 (by decide) ?_
        refine lv_iand hx hb dX5_outerSign_20 ?_
        refine e_i (y := nI ((b / 2 ^ k) &&& 1)) (n_and _ _) ?_
        refine lv_iconst (v := nI 1) hx hb dX5_outerSign_21 (by decide) ?_
        refine lv_icmp_ne (tgt := 38) hx hb dX5_outerSign_22 (by decide) (fun c_22 => ?_) (fun c_22 => ?_)
        · have c_22 : ¬ ((b / 2 ^ k) &&& 1) = 1 := fun h => c_22 ((nI_eq (a := ((b / 2 ^ k) &&& 1)) (b := 1) (Nat.lt_of_le_of_lt Nat.and_le_right (by decide)) (by omega)).mpr h)
          refine lv_iconst (v := nI 0) hx hb dX5_outerSign_38 (by decide) ?_
          refine lv_iadd hx hb dX5_outerSign_39 ?_
          refine e_i (y := nI (swp a b k + 0)) (nI_add _ _) ?_
          refine e_i (y := nI (swp a b (k + 1))) (n_eq (Eq.symm (show swp a b k + (if b / 2 ^ k &&& 1 = 1 then popc (a / 2 ^ (k + 1)) else 0) = _ from by rw [if_neg c_22]))) ?_
          refine lv_istore_n (lv' := [(3, .int (nI (swp a b (k + 1)))), (0, .ref ga), (1, .int (nI a)), (2, .int (nI b)), (4, .int (nI k))]) hx hb dX5_outerSign_40 rfl hl (by decide) rfl (fun ls hl => ?_)
          refine lv_iinc (v := nI (k + 1)) (lv' := [(4, .int (nI (k + 1))), (3, .int (nI (swp a b (k + 1)))), (0, .ref ga), (1, .int (nI a)), (2, .int (nI b))]) hx hb dX5_outerSign_41 hl (k := 4) rfl (by exact nI_add _ 1) (by decide) rfl (fun ls hl => ?_)
          refine lv_goto (tgt := 5) hx hb dX5_outerSign_44 (by decide) ?_
          exact ih_1 (k + 1) ls (by omega) (by omega) (lv_sub hl [2, 3, 4, 1, 0] rfl)
        · have c_22 : ((b / 2 ^ k) &&& 1) = 1 := (nI_eq (a := ((b / 2 ^ k) &&& 1)) (b := 1) (Nat.lt_of_le_of_lt Nat.and_le_right (by decide)) (by omega)).mp c_22
          refine va_getsN (v := .ref gr) hx hb (hG.Z Z Yg.1) hS hown (((va_Nw.warmF hG.1 (va_Nw.of rfl (Z.2.1 _ q198)))).use rfl) (fun _ h9 => h9) dX5_outerSign_25 ?_
          refine lv_iload_n hx hb dX5_outerSign_28 rfl (lv_at hl 1 rfl) ?_
          refine lv_iload hx hb dX5_outerSign_29 (lv_at hl 4 rfl) ?_
          refine lv_iconst (v := nI 1) hx hb dX5_outerSign_31 (by decide) ?_
          refine lv_iadd hx hb dX5_outerSign_32 ?_
          refine e_i (y := nI (k + 1)) (nI_add _ _) ?_
          refine lv_ishr hx hb dX5_outerSign_33 ?_
          refine e_i (y := nI (a / 2 ^ (k + 1))) (n_shr (by omega) (by omega)) ?_
          refine a_iald hx hb hK (hR0.up hS) 0 0 rfl rfl (haq _) (by omega) dX5_outerSign_34 ?_
          refine e_i (y := nI (popc (a / 2 ^ (k + 1)))) (rfl) ?_
          refine lv_goto (tgt := 39) hx hb dX5_outerSign_35 (by decide) ?_
          refine lv_iadd hx hb dX5_outerSign_39 ?_
          refine e_i (y := nI (swp a b k + (popc (a / 2 ^ (k + 1))))) (nI_add _ _) ?_
          refine e_i (y := nI (swp a b (k + 1))) (n_eq (Eq.symm (show swp a b k + (if b / 2 ^ k &&& 1 = 1 then popc (a / 2 ^ (k + 1)) else 0) = _ from by rw [if_pos c_22]))) ?_
          refine lv_istore_n (lv' := [(3, .int (nI (swp a b (k + 1)))), (0, .ref ga), (1, .int (nI a)), (2, .int (nI b)), (4, .int (nI k))]) hx hb dX5_outerSign_40 rfl hl (by decide) rfl (fun ls hl => ?_)
          refine lv_iinc (v := nI (k + 1)) (lv' := [(4, .int (nI (k + 1))), (3, .int (nI (swp a b (k + 1)))), (0, .ref ga), (1, .int (nI a)), (2, .int (nI b))]) hx hb dX5_outerSign_41 hl (k := 4) rfl (by exact nI_add _ 1) (by decide) rfl (fun ls hl => ?_)
          refine lv_goto (tgt := 5) hx hb dX5_outerSign_44 (by decide) ?_
          exact ih_1 (k + 1) ls (by omega) (by omega) (lv_sub hl [2, 3, 4, 1, 0] rfl)
  exact loop_1 _ 0 ls (Nat.lt_succ_self _) (by omega) (lv_sub hl [2, 3, 4, 1, 0] rfl)
set_option maxHeartbeats 4000000 in
theorem x5_complement {l : Launch} {dC : Nat → ClassId} {dI : Nat → Nat → Nat} {dA : Nat → ClassId} {s0 : State} {b0 : Addr} (Z : Z0 l dC dI dA s0 b0) (A : Nat → Prop) (sz : Nat) (hA : ∀ q : Nat, sz ≤ q → A q) {σ : Nat → Nat} (Y : SS (dC, dI) dA σ s0) (ga sg : Nat) (sr : Nat → Nat) (p0 q0 r0 : Nat) (ma mr : Nat) (M : MV) (bk : Bool) (hn : p0 + q0 + r0 ≤ 5) (sM : MSm M) : Met l yX5_complement (ws_ yX5_complement cX5_complement 6 (some (.object "BladeAlgebra$Multi"))) ({ frames := 4, cells := 2, slots := 34, locals := 240 } : Room) (gP [.ref ga, .ref ma, .int (bI bk)] s0 A (fun H => H.size = sz ∧ RO A (dC, dI) [(ga, .inr (1, [.int (nI p0), .int (nI q0), .int (nI r0), .int (nI (p0 + q0 + r0)), .int (nI (2 ^ (p0 + q0 + r0) - 1)), .ref sg]))] H ∧ RO A (dC, dI) [(ma, .inr (0, [.ref mr, .long (M 0)])), (mr, .inl (dA 1, 32, .inr (.inl (fun j => M (j + 1)))))] H)) (va_Qr (S := Nat) (fun _ => True) (B1r (dC, dI) A (fun u q => MA dA q u (trnS (if bk = true then 4 else 3) p0 q0 r0 M)) (fun _ _ _ => True)) A) 2 34 A := by
  refine Met.ofW (cc := cX5_complement) (maxL := 6) (ret := (some (.object "BladeAlgebra$Multi"))) (by decide) rfl ?_
  intro p e s m args below meth c s₁ B hml hv
  obtain ⟨hav, hG, hsz, hR0, hR1⟩ := hv
  have hx := B.exec
  have hb := B.bytes
  have hr := B.returns
  have hts := atoms_spec (ws := (ws_ yX5_complement cX5_complement 6 (some (.object "BladeAlgebra$Multi")))) B.pre
  have hts : ∀ w ∈ lw_all, w.before _ s = true := fun w h => hts w (List.mem_cons_of_mem _ h)
  have hown : s.vm.findClass RX5 = some m.cls := findClass_of_methodNamed B.named
  have hlocks := B.notSynchronized
  have hK := hG.K Z
  subst hsz
  have hS : va_S A s.heap s.heap [] := va_S.rf
  have hP : va_P (dC, dI) vwCl [] s.heap := fun k q h => by simp at h
  have hD : va_D A [] := ⟨fun i j p q h => by simp at h, fun k q h => by simp at h⟩
  have hl := lv_entry ([.ref ga, .ref ma, .int (bI bk)]) (n := 6) (Nat.le_of_ble_eq_true rfl)
  rw [show entryFrame m args 6 = entryFrame m ([.ref ga, .ref ma, .int (bI bk)] : List Value).toArray 6 from by rw [hav], lg_entry_eq]
  generalize (lg_sl ([.ref ga, .ref ma, .int (bI bk)]) ++ List.replicate (6 - (lg_sl ([.ref ga, .ref ma, .int (bI bk)])).length) Slot.unset).toArray = ls at hl ⊢
  have hl : lv_has ls 6 [(0, .ref ga), (1, .ref ma), (2, .int (bI bk))] := hl
  generalize hQe : MQ below _ _ s _ _ _ = Q
  change W p l e ({ frames := 4, cells := 2, slots := 34, locals := 240 } : Room) s m args below meth c s.heap [] 0 0 Q (F0 m 0 ls [])
  have h5 := pow5 hn
  refine lv_bipush (v := nI 32) hx hb dX5_complement_0 (by decide) ?_
  refine a_newa (D := (dC, dI)) (atype := .long) (N' := 32) (a0 := (32, .inr (.inl (fun _ => 0)))) hx hb (hts _ q542) rfl hK hP hD hS hA 1 rfl (fun _ => ra_long) (fun _ => rfl) (by decide) (by decide) (by decide) (by first | decide | omega) (by first | decide | omega) dX5_complement_2 (fun na_1 H locs hP hD hS => ?_)
  have hP : va_P (dC, dI) vwCl [(na_1, .inl (dA 1, 32, .inr (.inl (fun _ => 0))))] H := hP
  have hD : va_D A [(na_1, .inl (dA 1, 32, .inr (.inl (fun _ => 0))))] := hD
  refine lv_astore_n (lv' := [(3, .ref na_1), (0, .ref ga), (1, .ref ma), (2, .int (bI bk))]) hx hb dX5_complement_4 rfl hl (by decide) rfl (fun ls hl => ?_)
  refine lv_iconst (v := nI 0) hx hb dX5_complement_5 (by decide) ?_
  refine lv_istore (lv' := [(4, .int (nI 0)), (3, .ref na_1), (0, .ref ga), (1, .ref ma), (2, .int (bI bk))]) hx hb dX5_complement_6 hl (by decide) rfl (fun ls hl => ?_)
  have e9 : (fun _ => 0 : Nat → Int64) = (trnP (if bk = true then 4 else 3) p0 q0 r0 M 0) := (trnP_0 _ _ _ _ _).symm
  rw [e9] at hP hD; clear e9
  have loop_2 : ∀ (n9_2 : Nat) (a : Nat) (H : Heap) (locs : List Loc) (ls : Array Slot), 33 - a < n9_2 → (a ≤ 2 ^ (p0 + q0 + r0)) → va_P (dC, dI) vwCl [(na_1, .inl (dA 1, 32, .inr (.inl (trnP (if bk = true then 4 else 3) p0 q0 r0 M a))))] H → va_D A [(na_1, .inl (dA 1, 32, .inr (.inl (trnP (if bk = true then 4 else 3) p0 q0 r0 M a))))] → va_S A s.heap H locs → lv_has ls 6 [(0, .ref ga), (1, .ref ma), (2, .int (bI bk)), (3, .ref na_1), (4, .int (nI a))] → W p l e ({ frames := 4, cells := 2, slots := 34, locals := 240 } : Room) s m args below meth c H locs (0 + 1) (0 + 32) Q (F0 m 8 ls []) := by
    intro n9_2
    induction n9_2 with
    | zero => intro a H locs ls hm_2; exact absurd hm_2 (Nat.not_lt_zero _)
    | succ n9_2 ih_2 =>
      intro a H locs ls hm_2 ha8 hP hD hS hl
      refine lv_iload hx hb dX5_complement_8 (lv_at hl 4 rfl) ?_
      refine lv_aload_n hx hb dX5_complement_10 rfl (lv_at hl 0 rfl) ?_
      refine va_get (D := (dC, dI)) (ci := 1) (v := .int (nI (2 ^ (p0 + q0 + r0) - 1))) (C := RX5) (T := TX5) (N := 6) hx hb hts in_X5 hown hK (hR0.up hS) 0 rfl rfl 4 (by decide) (hts _ q211) (fun _ h9 => h9) rfl dX5_complement_11 ?_
      refine lv_icmp_gt (tgt := 68) hx hb dX5_complement_14 (by decide) (fun c_14 => ?_) (fun c_14 => ?_)
      · have c_14 : (2 ^ (p0 + q0 + r0) - 1) < a := (nI_ltI (a := (2 ^ (p0 + q0 + r0) - 1)) (b := a) (by omega) (by omega)).mp c_14
        obtain rfl : a = 2 ^ (p0 + q0 + r0) := by omega
        have e9 : (trnP (if bk = true then 4 else 3) p0 q0 r0 M (2 ^ (p0 + q0 + r0)) : Nat → Int64) = (trnR (if bk = true then 4 else 3) p0 q0 r0 M) := trnP_W hn _
        rw [e9] at hP hD; clear e9
        refine lv_aload_n hx hb dX5_complement_68 rfl (lv_at hl 1 rfl) ?_
        refine lv_aload_n hx hb dX5_complement_69 rfl (lv_at hl 3 rfl) ?_
        have hF9 := va_free (wc := [(na_1, .inl (dA 1, 32, .inr (.inl (trnR (if bk = true then 4 else 3) p0 q0 r0 M))))]) hD hS (fun q h => hA q h) [0] rfl
        refine c_r (wr := []) (va_runVN (As := [.ref na_1]) (rest := []) ⟨hx, hb, hml, hown, hts⟩ (x6_reduced Z (va_A [(na_1, .inl (dA 1, 32, .inr (.inl (trnR (if bk = true then 4 else 3) p0 q0 r0 M))))] H.size) H.size (fun q h => Or.inr h) ma mr na_1 M (trnR (if bk = true then 4 else 3) p0 q0 r0 M) sM (fun j _ => ne_min_of (trnR_bd hn sM j) (by decide))) ⟨va_cnB 1 hts (lw_meth q718) rfl rfl rfl (va_Nw.warmM hG.1 (va_Nw.of rfl (Z.2.1 _ q715))) (hts _ q102) (by decide +kernel) ⟨Nat.le_of_ble_eq_true rfl, Nat.le_of_ble_eq_true rfl⟩, hts _ q717, hts _ qs5⟩ (gP_V (va_recv hK (hR1.up hS) (ci := 0) (q0 := 0) rfl rfl) hG hS (fun q _ h => hF9 q h) ⟨rfl, (hP.sub (ws' := [(na_1, .inl (dA 1, 32, .inr (.inl (trnR (if bk = true then 4 else 3) p0 q0 r0 M))))]) [0] rfl), (hD.sub (ws' := [(na_1, .inl (dA 1, 32, .inr (.inl (trnR (if bk = true then 4 else 3) p0 q0 r0 M))))]) [0] (by decide) rfl).self, (hR1.to hS (fun q _ h => hF9 q h))⟩) rfl rfl hl.1 rfl (lv_room (Nat.le_of_ble_eq_true rfl)) dX5_complement_70 ⟨by first | decide | omega, by first | decide | omega⟩) hP hD hS hA [0] [] rfl rfl (by decide) (by decide) (fun u9 ra9 H locs hq hX hz hk hP hD hS => ?_)
        obtain ⟨ra_3, rfl⟩ : ∃ z, z = ra9 := ⟨_, rfl⟩
        have hP : va_P (dC, dI) vwCl [(ra_3, .inr (0, [.ref na_1, .long (redS (M 0) (trnR (if bk = true then 4 else 3) p0 q0 r0 M) 0)])), (na_1, .inl (dA 1, 32, .inr (.inl (fun j => redS (M 0) (trnR (if bk = true then 4 else 3) p0 q0 r0 M) (j + 1)))))] H := hP
        have hD : va_D A [(ra_3, .inr (0, [.ref na_1, .long (redS (M 0) (trnR (if bk = true then 4 else 3) p0 q0 r0 M) 0)])), (na_1, .inl (dA 1, 32, .inr (.inl (fun j => redS (M 0) (trnR (if bk = true then 4 else 3) p0 q0 r0 M) (j + 1)))))] := hD
        subst hQe
        refine W.widen (k := 2) (n := 34) (by first | decide | omega) (by first | decide | omega) ?_
        exact W.aret (v := .ref ra_3) hx hb hr (Or.inl ⟨_, rfl⟩) (Or.inr ⟨_, rfl⟩) (fun tz ht hW => ⟨⟨na_1, ra_3, rfl, trivial, B1r_at ht (hP.sub [0, 1] rfl) (hD.sub [0, 1] (by decide) rfl) trivial⟩, hS.F ht⟩) hS.2.2 dX5_complement_73
      · have c_14 : ¬ (2 ^ (p0 + q0 + r0) - 1) < a := fun h => c_14 ((nI_ltI (a := (2 ^ (p0 + q0 + r0) - 1)) (b := a) (by omega) (by omega)).mpr h)
        have ha9 : a < 2 ^ (p0 + q0 + r0) := by omega
        have ha7 : (2 ^ (p0 + q0 + r0) - 1) ^^^ a < 2 ^ (p0 + q0 + r0) := full_xor hn ha9
        refine lv_aload_n hx hb dX5_complement_17 rfl (lv_at hl 0 rfl) ?_
        refine va_get (D := (dC, dI)) (ci := 1) (v := .int (nI (2 ^ (p0 + q0 + r0) - 1))) (C := RX5) (T := TX5) (N := 6) hx hb hts in_X5 hown hK (hR0.up hS) 0 rfl rfl 4 (by decide) (hts _ q211) (fun _ h9 => h9) rfl dX5_complement_18 ?_
        refine lv_iload hx hb dX5_complement_21 (lv_at hl 4 rfl) ?_
        refine lv_ixor hx hb dX5_complement_23 ?_
        refine e_i (y := nI ((2 ^ (p0 + q0 + r0) - 1) ^^^ a)) (n_xor _ _) ?_
        refine lv_istore (lv' := [(5, .int (nI ((2 ^ (p0 + q0 + r0) - 1) ^^^ a))), (0, .ref ga), (1, .ref ma), (2, .int (bI bk)), (3, .ref na_1), (4, .int (nI a))]) hx hb dX5_complement_24 hl (by decide) rfl (fun ls hl => ?_)
        refine lv_aload_n hx hb dX5_complement_26 rfl (lv_at hl 4 rfl) ?_
        refine lv_iload hx hb dX5_complement_27 (lv_at hl 0 rfl) ?_
        refine lv_iload_n hx hb dX5_complement_29 rfl (lv_at hl 3 rfl) ?_
        refine lv_if_eq (tgt := 44) hx hb dX5_complement_30 (by decide) (fun c_30 => ?_) (fun c_30 => ?_)
        · obtain rfl := bI_0 c_30
          refine lv_aload_n hx hb dX5_complement_44 rfl (lv_at hl 1 rfl) ?_
          refine lv_iload hx hb dX5_complement_45 (lv_at hl 5 rfl) ?_
          refine lv_iload hx hb dX5_complement_47 (lv_at hl 0 rfl) ?_
          refine s_i (va_runV (As := [.int (nI a), .int (nI ((2 ^ (p0 + q0 + r0) - 1) ^^^ a))]) (rest := [.int (nI ((2 ^ (p0 + q0 + r0) - 1) ^^^ a)), .ref na_1]) ⟨hx, hb, hml, hown, hts⟩ (x5_outerSign Z Y ga sg sr p0 q0 r0 a ((2 ^ (p0 + q0 + r0) - 1) ^^^ a) hn (by omega) (by omega)) (cwV 2 hts (lw_V q711 q713 qs4 q101 q714) rfl rfl rfl (by decide +kernel) ⟨Nat.le_of_ble_eq_true rfl, Nat.le_of_ble_eq_true rfl⟩) (gP_V (va_recv hK (hR0.up hS) (ci := 1) (q0 := 0) rfl rfl) hG hS (fun q _ h => h.elim) ((hR0.up hS).sub (ws' := [(ga, .inr (1, [.int (nI p0), .int (nI q0), .int (nI r0), .int (nI (p0 + q0 + r0)), .int (nI (2 ^ (p0 + q0 + r0) - 1)), .ref sg]))]) [0] rfl)) rfl rfl hl.1 rfl (lv_room (Nat.le_of_ble_eq_true rfl)) dX5_complement_49 ⟨by first | decide | omega, by first | decide | omega⟩) ?_
          refine lv_i2l (v := (ordS a ((2 ^ (p0 + q0 + r0) - 1) ^^^ a)).toInt64) hx hb dX5_complement_52 rfl ?_
          refine lv_aload_n hx hb dX5_complement_53 rfl (lv_at hl 2 rfl) ?_
          refine va_getN (D := (dC, dI)) (ci := 0) (v := .ref mr) (C := RX6) (T := TX6) (N := 2) hx hb hts in_X6 hown hK (hR1.up hS) 0 rfl rfl 0 (by decide) (((va_Nw.warmF hG.1 (va_Nw.of rfl (Z.2.1 _ q551)))).use rfl) (fun _ h9 => h9) rfl dX5_complement_54 ?_
          refine lv_iload hx hb dX5_complement_57 (lv_at hl 5 rfl) ?_
          refine a_lald hx hb hK (hR1.up hS) 1 1 rfl rfl (by omega) (by omega) dX5_complement_59 ?_
          refine lv_lmul hx hb dX5_complement_60 ?_
          refine a_last hx hb hK hP hD hS 0 1 rfl rfl (by omega) (by omega) dX5_complement_61 (fun H locs hP hD hS => ?_)
          have hP : va_P (dC, dI) vwCl [(na_1, .inl (dA 1, 32, .inr (.inl (vp_updL (trnP (if false = true then 4 else 3) p0 q0 r0 M a) ((2 ^ (p0 + q0 + r0) - 1) ^^^ a) (((ordS a ((2 ^ (p0 + q0 + r0) - 1) ^^^ a)).toInt64) * ((fun j => M (j + 1)) a))))))] H := hP
          have hD : va_D A [(na_1, .inl (dA 1, 32, .inr (.inl (vp_updL (trnP (if false = true then 4 else 3) p0 q0 r0 M a) ((2 ^ (p0 + q0 + r0) - 1) ^^^ a) (((ordS a ((2 ^ (p0 + q0 + r0) - 1) ^^^ a)).toInt64) * ((fun j => M (j + 1)) a))))))] := hD
          have e9 : (vp_updL (trnP (if false = true then 4 else 3) p0 q0 r0 M a) ((2 ^ (p0 + q0 + r0) - 1) ^^^ a) (((ordS a ((2 ^ (p0 + q0 + r0) - 1) ^^^ a)).toInt64) * ((fun j => M (j + 1)) a)) : Nat → Int64) = (trnP (if false = true then 4 else 3) p0 q0 r0 M (a + 1)) := cmp_sf hn ha9
          rw [e9] at hP hD; clear e9
          refine lv_iinc (v := nI (a + 1)) (lv' := [(4, .int (nI (a + 1))), (5, .int (nI ((2 ^ (p0 + q0 + r0) - 1) ^^^ a))), (0, .ref ga), (1, .ref ma), (2, .int (bI false)), (3, .ref na_1)]) hx hb dX5_complement_62 hl (k := 5) rfl (by exact nI_add _ 1) (by decide) rfl (fun ls hl => ?_)
          refine lv_goto (tgt := 8) hx hb dX5_complement_65 (by decide) ?_
          exact ih_2 (a + 1) H locs ls (by omega) (by omega) (hP.sub [0] rfl) (hD.sub [0] (by decide) rfl) hS (lv_sub hl [2, 3, 4, 5, 0] rfl)
        · obtain rfl := bI_1 c_30
          refine lv_aload_n hx hb dX5_complement_33 rfl (lv_at hl 1 rfl) ?_
          refine lv_iload hx hb dX5_complement_34 (lv_at hl 0 rfl) ?_
          refine lv_iload hx hb dX5_complement_36 (lv_at hl 5 rfl) ?_
          refine s_i (va_runV (As := [.int (nI ((2 ^ (p0 + q0 + r0) - 1) ^^^ a)), .int (nI a)]) (rest := [.int (nI ((2 ^ (p0 + q0 + r0) - 1) ^^^ a)), .ref na_1]) ⟨hx, hb, hml, hown, hts⟩ (x5_outerSign Z Y ga sg sr p0 q0 r0 ((2 ^ (p0 + q0 + r0) - 1) ^^^ a) a hn (by omega) (by omega)) (cwV 2 hts (lw_V q711 q713 qs4 q101 q714) rfl rfl rfl (by decide +kernel) ⟨Nat.le_of_ble_eq_true rfl, Nat.le_of_ble_eq_true rfl⟩) (gP_V (va_recv hK (hR0.up hS) (ci := 1) (q0 := 0) rfl rfl) hG hS (fun q _ h => h.elim) ((hR0.up hS).sub (ws' := [(ga, .inr (1, [.int (nI p0), .int (nI q0), .int (nI r0), .int (nI (p0 + q0 + r0)), .int (nI (2 ^ (p0 + q0 + r0) - 1)), .ref sg]))]) [0] rfl)) rfl rfl hl.1 rfl (lv_room (Nat.le_of_ble_eq_true rfl)) dX5_complement_38 ⟨by first | decide | omega, by first | decide | omega⟩) ?_
          refine lv_goto (tgt := 52) hx hb dX5_complement_41 (by decide) ?_
          refine lv_i2l (v := (ordS ((2 ^ (p0 + q0 + r0) - 1) ^^^ a) a).toInt64) hx hb dX5_complement_52 rfl ?_
          refine lv_aload_n hx hb dX5_complement_53 rfl (lv_at hl 2 rfl) ?_
          refine va_getN (D := (dC, dI)) (ci := 0) (v := .ref mr) (C := RX6) (T := TX6) (N := 2) hx hb hts in_X6 hown hK (hR1.up hS) 0 rfl rfl 0 (by decide) (((va_Nw.warmF hG.1 (va_Nw.of rfl (Z.2.1 _ q551)))).use rfl) (fun _ h9 => h9) rfl dX5_complement_54 ?_
          refine lv_iload hx hb dX5_complement_57 (lv_at hl 5 rfl) ?_
          refine a_lald hx hb hK (hR1.up hS) 1 1 rfl rfl (by omega) (by omega) dX5_complement_59 ?_
          refine lv_lmul hx hb dX5_complement_60 ?_
          refine a_last hx hb hK hP hD hS 0 1 rfl rfl (by omega) (by omega) dX5_complement_61 (fun H locs hP hD hS => ?_)
          have hP : va_P (dC, dI) vwCl [(na_1, .inl (dA 1, 32, .inr (.inl (vp_updL (trnP (if true = true then 4 else 3) p0 q0 r0 M a) ((2 ^ (p0 + q0 + r0) - 1) ^^^ a) (((ordS ((2 ^ (p0 + q0 + r0) - 1) ^^^ a) a).toInt64) * ((fun j => M (j + 1)) a))))))] H := hP
          have hD : va_D A [(na_1, .inl (dA 1, 32, .inr (.inl (vp_updL (trnP (if true = true then 4 else 3) p0 q0 r0 M a) ((2 ^ (p0 + q0 + r0) - 1) ^^^ a) (((ordS ((2 ^ (p0 + q0 + r0) - 1) ^^^ a) a).toInt64) * ((fun j => M (j + 1)) a))))))] := hD
          have e9 : (vp_updL (trnP (if true = true then 4 else 3) p0 q0 r0 M a) ((2 ^ (p0 + q0 + r0) - 1) ^^^ a) (((ordS ((2 ^ (p0 + q0 + r0) - 1) ^^^ a) a).toInt64) * ((fun j => M (j + 1)) a)) : Nat → Int64) = (trnP (if true = true then 4 else 3) p0 q0 r0 M (a + 1)) := cmp_st hn ha9
          rw [e9] at hP hD; clear e9
          refine lv_iinc (v := nI (a + 1)) (lv' := [(4, .int (nI (a + 1))), (5, .int (nI ((2 ^ (p0 + q0 + r0) - 1) ^^^ a))), (0, .ref ga), (1, .ref ma), (2, .int (bI true)), (3, .ref na_1)]) hx hb dX5_complement_62 hl (k := 5) rfl (by exact nI_add _ 1) (by decide) rfl (fun ls hl => ?_)
          refine lv_goto (tgt := 8) hx hb dX5_complement_65 (by decide) ?_
          exact ih_2 (a + 1) H locs ls (by omega) (by omega) (hP.sub [0] rfl) (hD.sub [0] (by decide) rfl) hS (lv_sub hl [2, 3, 4, 5, 0] rfl)
  exact loop_2 _ 0 H locs ls (Nat.lt_succ_self _) (by omega) hP hD hS (lv_sub hl [2, 3, 4, 1, 0] rfl)
