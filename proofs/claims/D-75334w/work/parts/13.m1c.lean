theorem lN_nz {g : Nat} (h : 0 < g) (h2 : g < 2 ^ 63) : ¬ lN g = 0 := fun q => by
  have := (pk_lEQ h2 (by decide : 0 < 2 ^ 63)).mp q
  omega
theorem lN_aN {u : Int64} (h : 0 < u.toInt) : lN (aN u) = u := by
  apply Int64.toInt_inj.mp
  have := Int64.toInt_lt u
  rw [pk_lT (by unfold aN; omega)]
  unfold aN
  omega
theorem put_post {mu : Int64} {fM fA : Nat → Int64} {k : Nat} (h : fitB mu fM = true) : PutPost fA k (fitS mu fM) (nI 1) (wrS (vp_updL fA (33 * k) (mu / lN (gA mu fM 32))) (33 * k + 1) 32 (fun j => fM j / lN (gA mu fM 32))) := by
  rw [fitS_t h]
  refine ⟨rfl, fun i hi => ?_, fun j hj => ?_⟩
  · by_cases h0 : i = 0
    · subst h0
      rw [wr_out (by omega)]
      exact pk_uLs
    · rw [wr_in (by omega) (by omega)]
      show fM _ / _ = (if i = 0 then _ else fM (i - 1) / _)
      rw [if_neg h0]
      congr 2
      omega
  · rw [wr_out (by omega), pk_uLn (by omega)]
theorem PutPost.z {fA : Nat → Int64} {k : Nat} {res : Option MV} {r : Int32} {fA' : Nat → Int64} (h : PutPost fA k res r fA') : narrow .boolean (.int r) = .int r := by
  cases res with
  | none => rw [h.1]; rfl
  | some M => rw [h.1]; rfl
theorem trnG_3 {p q r : Nat} (a : Nat) : trnG 3 p q r (fullN p q r ^^^ a) = ordS a (fullN p q r ^^^ a) := by
  show ordS (fullN p q r ^^^ (fullN p q r ^^^ a)) _ = _
  rw [xor_cancel]
theorem trnG_4 {p q r : Nat} (a : Nat) : trnG 4 p q r (fullN p q r ^^^ a) = ordS (fullN p q r ^^^ a) a := by
  show ordS _ (fullN p q r ^^^ (fullN p q r ^^^ a)) = _
  rw [xor_cancel]
theorem trnG_5 {p q r : Nat} (a : Nat) : trnG 5 p q r (fullN p q r ^^^ a) = sgS p q r (fullN p q r) (fullN p q r) * sgS p q r a (fullN p q r) := by
  show _ * sgS p q r (fullN p q r ^^^ (fullN p q r ^^^ a)) _ = _
  rw [xor_cancel]
theorem trnG_x {op p q r a : Nat} (h3 : ¬ op = 3) (h4 : ¬ op = 4) (h5 : ¬ op = 5) : trnG op p q r a = turS op (popc a) := by
  unfold trnG; rw [if_neg h3, if_neg h4, if_neg h5]
theorem trnI_x {op p q r a : Nat} (h3 : ¬ op = 3) (h4 : ¬ op = 4) (h5 : ¬ op = 5) : trnI op p q r a = a := by
  unfold trnI; rw [if_neg (by omega)]
set_option maxHeartbeats 4000000 in
theorem x7_common {l : Launch} {dC : Nat → ClassId} {dI : Nat → Nat → Nat} {dA : Nat → ClassId} {s0 : State} {b0 : Addr} (Z : Z0 l dC dI dA s0 b0) (a b : Int64) (ha : a ≠ Int64.minValue) (hbb : b ≠ Int64.minValue) : Met l yX7_common (ws_ yX7_common cX7_common 10 (some .long)) ({ frames := 1, cells := 0, slots := 0, locals := 60 } : Room) (gP [.long a, .long b] s0 (fun _ => False) (fun H => True)) (vp_Sl (fun r => r = gcdL a b)) 0 0 (fun _ => False) := by
  refine Met.ofW (cc := cX7_common) (maxL := 10) (ret := (some .long)) (by decide) rfl ?_
  intro p e s m args below meth c s₁ B hml hv
  obtain ⟨hav, hG, hno⟩ := hv
  have hx := B.exec
  have hb := B.bytes
  have hr := B.returns
  have hts := atoms_spec (ws := (ws_ yX7_common cX7_common 10 (some .long))) B.pre
  have hts : ∀ w ∈ lw_all, w.before _ s = true := fun w h => hts w (List.mem_cons_of_mem _ h)
  have hown : s.vm.findClass RX7 = some m.cls := findClass_of_methodNamed B.named
  have hlocks := B.notSynchronized
  have hK := hG.K Z
  have hS : va_S (fun _ => False) s.heap s.heap [] := va_S.rf
  have hP : va_P (dC, dI) vwCl [] s.heap := fun k q h => by simp at h
  have hD : va_D (fun _ => False) [] := ⟨fun i j p q h => by simp at h, fun k q h => by simp at h⟩
  have hl := lv_entry ([.long a, .long b]) (n := 10) (Nat.le_of_ble_eq_true rfl)
  rw [show entryFrame m args 10 = entryFrame m ([.long a, .long b] : List Value).toArray 10 from by rw [hav], lg_entry_eq]
  generalize (lg_sl ([.long a, .long b]) ++ List.replicate (10 - (lg_sl ([.long a, .long b])).length) Slot.unset).toArray = ls at hl ⊢
  have hl : lv_has ls 10 [(0, .long a), (2, .long b)] := hl
  generalize hQe : MQ below _ _ s _ _ _ = Q
  change W p l e ({ frames := 1, cells := 0, slots := 0, locals := 60 } : Room) s m args below meth c s.heap [] 0 0 Q (F0 m 0 ls [])
  have J_1 : ∀  (ls : Array Slot), lv_has ls 10 [(0, .long a), (2, .long b)] → W p l e ({ frames := 1, cells := 0, slots := 0, locals := 60 } : Room) s m args below meth c s.heap [] 0 0 Q (F0 m 12 ls [.long (absL a)]) := by
    intro  ls  hl
    refine lv_lstore (lv' := [(4, .long (absL a)), (0, .long a), (2, .long b)]) hx hb dX7_common_12 hl (by decide) rfl (fun ls hl => ?_)
    have J_2 : ∀  (ls : Array Slot), lv_has ls 10 [(4, .long (absL a)), (0, .long a), (2, .long b)] → W p l e ({ frames := 1, cells := 0, slots := 0, locals := 60 } : Room) s m args below meth c s.heap [] 0 0 Q (F0 m 26 ls [.long (absL b)]) := by
      intro  ls  hl
      refine lv_lstore (lv' := [(6, .long (absL b)), (4, .long (absL a)), (0, .long a), (2, .long b)]) hx hb dX7_common_26 hl (by decide) rfl (fun ls hl => ?_)
      have hl : lv_has ls 10 [(6, .long (absL b)), (4, .long (lN (aN a))), (0, .long a), (2, .long b)] := by rw [show lN (aN a) = absL a from (absL_lN ha).symm]; exact hl
      have hl : lv_has ls 10 [(6, .long (lN (aN b))), (4, .long (lN (aN a))), (0, .long a), (2, .long b)] := by rw [show lN (aN b) = absL b from (absL_lN hbb).symm]; exact hl
      have loop_3 : ∀ (n9_3 : Nat) (x : Nat) (y : Nat) (ls : Array Slot), y < n9_3 → (x < 2 ^ 63) → (y < 2 ^ 63) → (Nat.gcd x y = Nat.gcd (aN a) (aN b)) → lv_has ls 10 [(0, .long a), (2, .long b), (4, .long (lN x)), (6, .long (lN y))] → W p l e ({ frames := 1, cells := 0, slots := 0, locals := 60 } : Room) s m args below meth c s.heap [] 0 0 Q (F0 m 28 ls []) := by
        intro n9_3
        induction n9_3 with
        | zero => intro x y ls hm_3; exact absurd hm_3 (Nat.not_lt_zero _)
        | succ n9_3 ih_3 =>
          intro x y ls hm_3 hx9 hy9 hg9 hl
          refine lv_lload hx hb dX7_common_28 (lv_at hl 3 rfl) ?_
          refine lv_lconst (v := 0) hx hb dX7_common_30 rfl ?_
          refine W.lcmp hx hb dX7_common_31 ?_
          refine lv_if_eq (tgt := 53) hx hb dX7_common_32 (by decide) (fun c_32 => ?_) (fun c_32 => ?_)
          · have c_32 : (lN y) = 0 := (lg_cmp_eq _ _).mp c_32
            obtain rfl : y = 0 := by have h9 := (pk_lEQ hy9 (by decide : 0 < 2 ^ 63)).mp c_32; exact h9
            refine lv_lload hx hb dX7_common_53 (lv_at hl 2 rfl) ?_
            refine e_l (y := gcdL a b) ((by unfold gcdL; rw [← hg9, Nat.gcd_zero_right])) ?_
            subst hQe
            exact W.lret (v := gcdL a b) hx hb hr (fun t ht hW => ⟨_, rfl, rfl, ht⟩) hS.2.2 dX7_common_55
          · have c_32 : ¬ (lN y) = 0 := fun h => c_32 ((lg_cmp_eq _ _).mpr h)
            have hy0 : 0 < y := Nat.pos_of_ne_zero (fun h => c_32 (by rw [h]; rfl))
            refine lv_lload hx hb dX7_common_35 (lv_at hl 2 rfl) ?_
            refine lv_lload hx hb dX7_common_37 (lv_at hl 3 rfl) ?_
            refine lv_lrem hx hb dX7_common_39 (fun h => c_32 h) ?_
            refine e_l (y := lN (x % y)) (pk_lRem hx9 hy0 hy9) ?_
            refine lv_lstore (lv' := [(8, .long (lN (x % y))), (0, .long a), (2, .long b), (4, .long (lN x)), (6, .long (lN y))]) hx hb dX7_common_40 hl (by decide) rfl (fun ls hl => ?_)
            refine lv_lload hx hb dX7_common_42 (lv_at hl 4 rfl) ?_
            refine lv_lstore (lv' := [(4, .long (lN y)), (8, .long (lN (x % y))), (0, .long a), (2, .long b), (6, .long (lN y))]) hx hb dX7_common_44 hl (by decide) rfl (fun ls hl => ?_)
            refine lv_lload hx hb dX7_common_46 (lv_at hl 1 rfl) ?_
            refine lv_lstore (lv' := [(6, .long (lN (x % y))), (4, .long (lN y)), (8, .long (lN (x % y))), (0, .long a), (2, .long b)]) hx hb dX7_common_48 hl (by decide) rfl (fun ls hl => ?_)
            refine lv_goto (tgt := 28) hx hb dX7_common_50 (by decide) ?_
            exact ih_3 y (x % y) ls (Nat.lt_of_lt_of_le (Nat.mod_lt _ hy0) (by omega)) hy9 (Nat.lt_trans (Nat.mod_lt _ hy0) hy9) (by rw [← hg9, Nat.gcd_comm x y, Nat.gcd_rec y x, Nat.gcd_comm]) (lv_sub hl [3, 4, 1, 0] rfl)
      exact loop_3 _ (aN a) (aN b) ls (Nat.lt_succ_self _) (aN_lt ha) (aN_lt hbb) rfl (lv_sub hl [2, 3, 1, 0] rfl)
    refine lv_lload_n hx hb dX7_common_14 rfl (lv_at hl 2 rfl) ?_
    refine lv_lconst (v := 0) hx hb dX7_common_15 rfl ?_
    refine W.lcmp hx hb dX7_common_16 ?_
    refine lv_if_ge (tgt := 25) hx hb dX7_common_17 (by decide) (fun c_17 => ?_) (fun c_17 => ?_)
    · have c_17 : 0 ≤ b := (lg_cmp_ge _ _).mp c_17
      refine lv_lload_n hx hb dX7_common_25 rfl (lv_at hl 2 rfl) ?_
      refine e_l (y := absL b) ((by unfold absL; rw [if_neg (Int64.not_lt.mpr c_17)])) ?_
      exact J_2  ls  (lv_sub hl [0, 1, 2] rfl)
    · have c_17 : ¬ 0 ≤ b := fun h => c_17 ((lg_cmp_ge _ _).mpr h)
      refine lv_lload_n hx hb dX7_common_20 rfl (lv_at hl 2 rfl) ?_
      refine lv_lneg hx hb dX7_common_21 ?_
      refine lv_goto (tgt := 26) hx hb dX7_common_22 (by decide) ?_
      refine e_l (y := absL b) ((by unfold absL; rw [if_pos (Int64.not_le.mp c_17)])) ?_
      exact J_2  ls  (lv_sub hl [0, 1, 2] rfl)
  refine lv_lload_n hx hb dX7_common_0 rfl (lv_at hl 0 rfl) ?_
  refine lv_lconst (v := 0) hx hb dX7_common_1 rfl ?_
  refine W.lcmp hx hb dX7_common_2 ?_
  refine lv_if_ge (tgt := 11) hx hb dX7_common_3 (by decide) (fun c_3 => ?_) (fun c_3 => ?_)
  · have c_3 : 0 ≤ a := (lg_cmp_ge _ _).mp c_3
    refine lv_lload_n hx hb dX7_common_11 rfl (lv_at hl 0 rfl) ?_
    refine e_l (y := absL a) ((by unfold absL; rw [if_neg (Int64.not_lt.mpr c_3)])) ?_
    exact J_1  ls  (lv_sub hl [0, 1] rfl)
  · have c_3 : ¬ 0 ≤ a := fun h => c_3 ((lg_cmp_ge _ _).mpr h)
    refine lv_lload_n hx hb dX7_common_6 rfl (lv_at hl 0 rfl) ?_
    refine lv_lneg hx hb dX7_common_7 ?_
    refine lv_goto (tgt := 12) hx hb dX7_common_8 (by decide) ?_
    refine e_l (y := absL a) ((by unfold absL; rw [if_pos (Int64.not_le.mp c_3)])) ?_
    exact J_1  ls  (lv_sub hl [0, 1] rfl)
set_option maxHeartbeats 4000000 in
theorem x7_puts {l : Launch} {dC : Nat → ClassId} {dI : Nat → Nat → Nat} {dA : Nat → ClassId} {s0 : State} {b0 : Addr} (Z : Z0 l dC dI dA s0 b0) (A : Nat → Prop) (sz : Nat) (hA : ∀ q : Nat, sz ≤ q → A q) (o : Nat → Nat) (th : Int32) (p0 q0 r0 : Nat) (mu : Int64) (zz : Nat → Int32) (fA fM : Nat → Int64) (k1 : Nat) (hk1 : k1 < 80) (hmu : 0 < mu.toInt) (hfm : ∀ j, j < 32 → fM j ≠ Int64.minValue) : Met l yX7_puts (ws_ yX7_puts cX7_puts 6 (some .boolean)) ({ frames := 2, cells := 0, slots := 0, locals := 120 } : Room) (gP [.ref (o 0), .int (nI k1)] s0 A (fun H => H.size = sz ∧ va_P (dC, dI) vwCl [(o 0, .inr (2, mFs o th p0 q0 r0 mu zz)), (o 5, .inl (dA 1, 2640, .inr (.inl fA))), (o 6, .inl (dA 1, 32, .inr (.inl fM)))] H ∧ va_D A [(o 0, .inr (2, mFs o th p0 q0 r0 mu zz)), (o 5, .inl (dA 1, 2640, .inr (.inl fA))), (o 6, .inl (dA 1, 32, .inr (.inl fM)))])) (va_Qi (S := (Nat → Int64) × (Nat → Int64) × Int64) (fun r u => PutPost fA k1 (fitS mu fM) r u.1) (B1 (dC, dI) A (fun u => mC dA o th p0 q0 r0 u.2.2 zz u.1 u.2.1) (fun _ _ => True)) A) 0 0 A := by
  refine Met.ofW (cc := cX7_puts) (maxL := 6) (ret := (some .boolean)) (by decide) rfl ?_
  intro p e s m args below meth c s₁ B hml hv
  obtain ⟨hav, hG, hsz, hP, hD⟩ := hv
  have hx := B.exec
  have hb := B.bytes
  have hr := B.returns
  have hts := atoms_spec (ws := (ws_ yX7_puts cX7_puts 6 (some .boolean))) B.pre
  have hts : ∀ w ∈ lw_all, w.before _ s = true := fun w h => hts w (List.mem_cons_of_mem _ h)
  have hown : s.vm.findClass RX7 = some m.cls := findClass_of_methodNamed B.named
  have hlocks := B.notSynchronized
  have hK := hG.K Z
  subst hsz
  have hS : va_S A s.heap s.heap [] := va_S.rf
  have hl := lv_entry ([.ref (o 0), .int (nI k1)]) (n := 6) (Nat.le_of_ble_eq_true rfl)
  rw [show entryFrame m args 6 = entryFrame m ([.ref (o 0), .int (nI k1)] : List Value).toArray 6 from by rw [hav], lg_entry_eq]
  generalize (lg_sl ([.ref (o 0), .int (nI k1)]) ++ List.replicate (6 - (lg_sl ([.ref (o 0), .int (nI k1)])).length) Slot.unset).toArray = ls at hl ⊢
  have hl : lv_has ls 6 [(0, .ref (o 0)), (1, .int (nI k1))] := hl
  generalize hQe : MQ below _ _ s _ _ _ = Q
  change W p l e ({ frames := 2, cells := 0, slots := 0, locals := 120 } : Room) s m args below meth c s.heap [] 0 0 Q (F0 m 0 ls [])
  have hg0 : ∀ n, 0 < gA mu fM n := fun n => gA_pos (aN_pos hmu) fM n
  have hg1 : ∀ n, gA mu fM n < 2 ^ 63 := fun n => Nat.lt_of_le_of_lt (gA_le (aN_pos hmu) fM n) (aN_lt (ne_min_of (B := 9223372036854775807) (by have := Int64.toInt_lt mu; omega) (by decide)))
  have hgz : ¬ lN (gA mu fM 32) = 0 := lN_nz (hg0 32) (hg1 32)
  refine lv_aload_n hx hb dX7_puts_0 rfl (lv_at hl 0 rfl) ?_
  refine va_get (D := (dC, dI)) (ci := 2) (v := .long mu) (C := RX7) (T := TX7) (N := 27) hx hb hts in_X7 hown hK hP 0 rfl rfl 10 (by decide) (hts _ q2016) (fun _ h9 => h9) rfl dX7_puts_1 ?_
  refine lv_lstore_n (lv' := [(2, .long mu), (0, .ref (o 0)), (1, .int (nI k1))]) hx hb dX7_puts_4 rfl hl (by decide) rfl (fun ls hl => ?_)
  refine lv_iconst (v := nI 0) hx hb dX7_puts_5 (by decide) ?_
  refine lv_istore (lv' := [(4, .int (nI 0)), (2, .long mu), (0, .ref (o 0)), (1, .int (nI k1))]) hx hb dX7_puts_6 hl (by decide) rfl (fun ls hl => ?_)
  have hl : lv_has ls 6 [(4, .int (nI 0)), (2, .long (lN (gA mu fM 0))), (0, .ref (o 0)), (1, .int (nI k1))] := by rw [show lN (gA mu fM 0) = mu from lN_aN hmu]; exact hl
  have loop_1 : ∀ (n9_1 : Nat) (k : Nat) (H : Heap) (locs : List Loc) (ls : Array Slot), 32 - k < n9_1 → (k ≤ 32) → va_P (dC, dI) vwCl [(o 0, .inr (2, mFs o th p0 q0 r0 mu zz)), (o 5, .inl (dA 1, 2640, .inr (.inl fA))), (o 6, .inl (dA 1, 32, .inr (.inl fM)))] H → va_D A [(o 0, .inr (2, mFs o th p0 q0 r0 mu zz)), (o 5, .inl (dA 1, 2640, .inr (.inl fA))), (o 6, .inl (dA 1, 32, .inr (.inl fM)))] → va_S A s.heap H locs → lv_has ls 6 [(0, .ref (o 0)), (1, .int (nI k1)), (2, .long (lN (gA mu fM k))), (4, .int (nI k))] → W p l e ({ frames := 2, cells := 0, slots := 0, locals := 120 } : Room) s m args below meth c H locs 0 0 Q (F0 m 8 ls []) := by
    intro n9_1
    induction n9_1 with
    | zero => intro k H locs ls hm_1; exact absurd hm_1 (Nat.not_lt_zero _)
    | succ n9_1 ih_1 =>
      intro k H locs ls hm_1 hk9 hP hD hS hl
      refine lv_iload hx hb dX7_puts_8 (lv_at hl 3 rfl) ?_
      refine lv_bipush (v := nI 32) hx hb dX7_puts_10 (by decide) ?_
      refine lv_icmp_ge (tgt := 33) hx hb dX7_puts_12 (by decide) (fun c_12 => ?_) (fun c_12 => ?_)
      · have c_12 : 32 ≤ k := (nI_leI (a := 32) (b := k) (by omega) (by omega)).mp c_12
        obtain rfl : k = 32 := by omega
        refine lv_aload_n hx hb dX7_puts_33 rfl (lv_at hl 0 rfl) ?_
        refine va_get (D := (dC, dI)) (ci := 2) (v := .long mu) (C := RX7) (T := TX7) (N := 27) hx hb hts in_X7 hown hK hP 0 rfl rfl 10 (by decide) (hts _ q2016) (fun _ h9 => h9) rfl dX7_puts_34 ?_
        refine lv_lload_n hx hb dX7_puts_37 rfl (lv_at hl 2 rfl) ?_
        refine lv_ldiv hx hb dX7_puts_38 hgz ?_
        refine s_i (va_runS (As := [.long (mu / (lN (gA mu fM 32)))]) (rest := []) ⟨hx, hb, hml, hown, hts⟩ (x7_isSmall Z (mu / (lN (gA mu fM 32)))) (va_cwS 1 hts (lw_S q2134 q2135 q107 q2136) rfl rfl rfl (by decide +kernel) ⟨Nat.le_of_ble_eq_true rfl, Nat.le_of_ble_eq_true rfl⟩) (gP_S hG hS (fun q _ h => h.elim) trivial) rfl rfl hl.1 rfl (lv_room (Nat.le_of_ble_eq_true rfl)) dX7_puts_39 ⟨by first | decide | omega, by first | decide | omega⟩) ?_
        refine lv_istore (lv' := [(4, .int (bI (smallB (mu / (lN (gA mu fM 32)))))), (0, .ref (o 0)), (1, .int (nI k1)), (2, .long (lN (gA mu fM 32)))]) hx hb dX7_puts_42 hl (by decide) rfl (fun ls hl => ?_)
        refine lv_iconst (v := nI 0) hx hb dX7_puts_44 (by decide) ?_
        refine lv_istore (lv' := [(5, .int (nI 0)), (4, .int (bI (smallB (mu / (lN (gA mu fM 32)))))), (0, .ref (o 0)), (1, .int (nI k1)), (2, .long (lN (gA mu fM 32)))]) hx hb dX7_puts_45 hl (by decide) rfl (fun ls hl => ?_)
        have hl : lv_has ls 6 [(5, .int (nI 0)), (4, .int (bI (pfB (mu / lN (gA mu fM 32)) (fun j => fM j / lN (gA mu fM 32)) 0))), (0, .ref (o 0)), (1, .int (nI k1)), (2, .long (lN (gA mu fM 32)))] := by rw [show bI (pfB (mu / lN (gA mu fM 32)) (fun j => fM j / lN (gA mu fM 32)) 0) = bI (smallB (mu / (lN (gA mu fM 32)))) from (by unfold pfB; rw [List.range_zero, List.all_nil, Bool.and_true])]; exact hl
        have loop_2 : ∀ (n9_2 : Nat) (k : Nat) (H : Heap) (locs : List Loc) (ls : Array Slot), 32 - k < n9_2 → (k ≤ 32) → va_P (dC, dI) vwCl [(o 0, .inr (2, mFs o th p0 q0 r0 mu zz)), (o 5, .inl (dA 1, 2640, .inr (.inl fA))), (o 6, .inl (dA 1, 32, .inr (.inl fM)))] H → va_D A [(o 0, .inr (2, mFs o th p0 q0 r0 mu zz)), (o 5, .inl (dA 1, 2640, .inr (.inl fA))), (o 6, .inl (dA 1, 32, .inr (.inl fM)))] → va_S A s.heap H locs → lv_has ls 6 [(0, .ref (o 0)), (1, .int (nI k1)), (2, .long (lN (gA mu fM 32))), (4, .int (bI (pfB (mu / lN (gA mu fM 32)) (fun j => fM j / lN (gA mu fM 32)) k))), (5, .int (nI k))] → W p l e ({ frames := 2, cells := 0, slots := 0, locals := 120 } : Room) s m args below meth c H locs 0 0 Q (F0 m 47 ls []) := by
          intro n9_2
          induction n9_2 with
          | zero => intro k H locs ls hm_2; exact absurd hm_2 (Nat.not_lt_zero _)
          | succ n9_2 ih_2 =>
            intro k H locs ls hm_2 hk9 hP hD hS hl
            refine lv_iload hx hb dX7_puts_47 (lv_at hl 4 rfl) ?_
            refine lv_bipush (v := nI 32) hx hb dX7_puts_49 (by decide) ?_
            refine lv_icmp_ge (tgt := 79) hx hb dX7_puts_51 (by decide) (fun c_51 => ?_) (fun c_51 => ?_)
            · have c_51 : 32 ≤ k := (nI_leI (a := 32) (b := k) (by omega) (by omega)).mp c_51
              obtain rfl : k = 32 := by omega
              refine lv_iload hx hb dX7_puts_79 (lv_at hl 3 rfl) ?_
              refine lv_if_ne (tgt := 86) hx hb dX7_puts_81 (by decide) (fun c_81 => ?_) (fun c_81 => ?_)
              · have hfit : fitB mu fM = true := bI_1 c_81
                refine lv_aload_n hx hb dX7_puts_86 rfl (lv_at hl 0 rfl) ?_
                refine va_get (D := (dC, dI)) (ci := 2) (v := .ref (o 5)) (C := RX7) (T := TX7) (N := 27) hx hb hts in_X7 hown hK hP 0 rfl rfl 8 (by decide) (hts _ q2014) (fun _ h9 => h9) rfl dX7_puts_87 ?_
                refine lv_bipush (v := nI 33) hx hb dX7_puts_90 (by decide) ?_
                refine lv_iload_n hx hb dX7_puts_92 rfl (lv_at hl 1 rfl) ?_
                refine lv_imul hx hb dX7_puts_93 ?_
                refine e_i (y := nI (33 * k1)) (pk_mul _ _) ?_
                refine lv_aload_n hx hb dX7_puts_94 rfl (lv_at hl 0 rfl) ?_
                refine va_get (D := (dC, dI)) (ci := 2) (v := .long mu) (C := RX7) (T := TX7) (N := 27) hx hb hts in_X7 hown hK hP 0 rfl rfl 10 (by decide) (hts _ q2016) (fun _ h9 => h9) rfl dX7_puts_95 ?_
                refine lv_lload_n hx hb dX7_puts_98 rfl (lv_at hl 2 rfl) ?_
                refine lv_ldiv hx hb dX7_puts_99 hgz ?_
                refine a_last hx hb hK hP hD hS 1 1 rfl rfl (by omega) (by omega) dX7_puts_100 (fun H locs hP hD hS => ?_)
                have hP : va_P (dC, dI) vwCl [(o 0, .inr (2, mFs o th p0 q0 r0 mu zz)), (o 5, .inl (dA 1, 2640, .inr (.inl (vp_updL fA (33 * k1) (mu / (lN (gA mu fM 32))))))), (o 6, .inl (dA 1, 32, .inr (.inl fM)))] H := hP
                have hD : va_D A [(o 0, .inr (2, mFs o th p0 q0 r0 mu zz)), (o 5, .inl (dA 1, 2640, .inr (.inl (vp_updL fA (33 * k1) (mu / (lN (gA mu fM 32))))))), (o 6, .inl (dA 1, 32, .inr (.inl fM)))] := hD
                refine lv_iconst (v := nI 0) hx hb dX7_puts_101 (by decide) ?_
                refine lv_istore (lv' := [(5, .int (nI 0)), (0, .ref (o 0)), (1, .int (nI k1)), (2, .long (lN (gA mu fM 32))), (4, .int (bI (pfB (mu / lN (gA mu fM 32)) (fun j => fM j / lN (gA mu fM 32)) 32)))]) hx hb dX7_puts_102 hl (by decide) rfl (fun ls hl => ?_)
                have e9 : (vp_updL fA (33 * k1) (mu / (lN (gA mu fM 32))) : Nat → Int64) = (wrS (vp_updL fA (33 * k1) (mu / lN (gA mu fM 32))) (33 * k1 + 1) 0 (fun j => fM j / lN (gA mu fM 32))) := (wr_0 _ _ _).symm
                rw [e9] at hP hD; clear e9
                have loop_3 : ∀ (n9_3 : Nat) (k : Nat) (H : Heap) (locs : List Loc) (ls : Array Slot), 32 - k < n9_3 → (k ≤ 32) → va_P (dC, dI) vwCl [(o 0, .inr (2, mFs o th p0 q0 r0 mu zz)), (o 5, .inl (dA 1, 2640, .inr (.inl (wrS (vp_updL fA (33 * k1) (mu / lN (gA mu fM 32))) (33 * k1 + 1) k (fun j => fM j / lN (gA mu fM 32)))))), (o 6, .inl (dA 1, 32, .inr (.inl fM)))] H → va_D A [(o 0, .inr (2, mFs o th p0 q0 r0 mu zz)), (o 5, .inl (dA 1, 2640, .inr (.inl (wrS (vp_updL fA (33 * k1) (mu / lN (gA mu fM 32))) (33 * k1 + 1) k (fun j => fM j / lN (gA mu fM 32)))))), (o 6, .inl (dA 1, 32, .inr (.inl fM)))] → va_S A s.heap H locs → lv_has ls 6 [(0, .ref (o 0)), (1, .int (nI k1)), (2, .long (lN (gA mu fM 32))), (4, .int (bI (pfB (mu / lN (gA mu fM 32)) (fun j => fM j / lN (gA mu fM 32)) 32))), (5, .int (nI k))] → W p l e ({ frames := 2, cells := 0, slots := 0, locals := 120 } : Room) s m args below meth c H locs 0 0 Q (F0 m 104 ls []) := by
                  intro n9_3
                  induction n9_3 with
                  | zero => intro k H locs ls hm_3; exact absurd hm_3 (Nat.not_lt_zero _)
                  | succ n9_3 ih_3 =>
                    intro k H locs ls hm_3 hk9 hP hD hS hl
                    refine lv_iload hx hb dX7_puts_104 (lv_at hl 4 rfl) ?_
                    refine lv_bipush (v := nI 32) hx hb dX7_puts_106 (by decide) ?_
                    refine lv_icmp_ge (tgt := 140) hx hb dX7_puts_108 (by decide) (fun c_108 => ?_) (fun c_108 => ?_)
                    · have c_108 : 32 ≤ k := (nI_leI (a := 32) (b := k) (by omega) (by omega)).mp c_108
                      obtain rfl : k = 32 := by omega
                      refine lv_iconst (v := nI 1) hx hb dX7_puts_140 (by decide) ?_
                      subst hQe
                      exact W.zret (v := nI 1) hx hb hr rfl (fun t ht hW => ⟨⟨_, (wrS (vp_updL fA (33 * k1) (mu / lN (gA mu fM 32))) (33 * k1 + 1) 32 (fun j => fM j / lN (gA mu fM 32)), fM, mu), rfl, (put_post hfit), B1_at ht (hP.sub [0, 1, 2] rfl) (hD.sub [0, 1, 2] (by decide) rfl) trivial⟩, hS.F ht⟩) hS.2.2 dX7_puts_141
                    · have c_108 : ¬ 32 ≤ k := fun h => c_108 ((nI_leI (a := 32) (b := k) (by omega) (by omega)).mpr h)
                      refine lv_aload_n hx hb dX7_puts_111 rfl (lv_at hl 0 rfl) ?_
                      refine va_get (D := (dC, dI)) (ci := 2) (v := .ref (o 5)) (C := RX7) (T := TX7) (N := 27) hx hb hts in_X7 hown hK hP 0 rfl rfl 8 (by decide) (hts _ q2014) (fun _ h9 => h9) rfl dX7_puts_112 ?_
                      refine lv_bipush (v := nI 33) hx hb dX7_puts_115 (by decide) ?_
                      refine lv_iload_n hx hb dX7_puts_117 rfl (lv_at hl 1 rfl) ?_
                      refine lv_imul hx hb dX7_puts_118 ?_
                      refine e_i (y := nI (33 * k1)) (pk_mul _ _) ?_
                      refine lv_iconst (v := nI 1) hx hb dX7_puts_119 (by decide) ?_
                      refine lv_iadd hx hb dX7_puts_120 ?_
                      refine e_i (y := nI (33 * k1 + 1)) (nI_add _ _) ?_
                      refine lv_iload hx hb dX7_puts_121 (lv_at hl 4 rfl) ?_
                      refine lv_iadd hx hb dX7_puts_123 ?_
                      refine e_i (y := nI (33 * k1 + 1 + k)) (nI_add _ _) ?_
                      refine lv_aload_n hx hb dX7_puts_124 rfl (lv_at hl 0 rfl) ?_
                      refine va_get (D := (dC, dI)) (ci := 2) (v := .ref (o 6)) (C := RX7) (T := TX7) (N := 27) hx hb hts in_X7 hown hK hP 0 rfl rfl 9 (by decide) (hts _ q2015) (fun _ h9 => h9) rfl dX7_puts_125 ?_
                      refine lv_iload hx hb dX7_puts_128 (lv_at hl 4 rfl) ?_
                      refine a_lald hx hb hK hP 2 1 rfl rfl (by omega) (by omega) dX7_puts_130 ?_
                      refine lv_lload_n hx hb dX7_puts_131 rfl (lv_at hl 2 rfl) ?_
                      refine lv_ldiv hx hb dX7_puts_132 hgz ?_
                      refine a_last hx hb hK hP hD hS 1 1 rfl rfl (by omega) (by omega) dX7_puts_133 (fun H locs hP hD hS => ?_)
                      have hP : va_P (dC, dI) vwCl [(o 0, .inr (2, mFs o th p0 q0 r0 mu zz)), (o 5, .inl (dA 1, 2640, .inr (.inl (vp_updL (wrS (vp_updL fA (33 * k1) (mu / lN (gA mu fM 32))) (33 * k1 + 1) k (fun j => fM j / lN (gA mu fM 32))) (33 * k1 + 1 + k) ((fM k) / (lN (gA mu fM 32))))))), (o 6, .inl (dA 1, 32, .inr (.inl fM)))] H := hP
                      have hD : va_D A [(o 0, .inr (2, mFs o th p0 q0 r0 mu zz)), (o 5, .inl (dA 1, 2640, .inr (.inl (vp_updL (wrS (vp_updL fA (33 * k1) (mu / lN (gA mu fM 32))) (33 * k1 + 1) k (fun j => fM j / lN (gA mu fM 32))) (33 * k1 + 1 + k) ((fM k) / (lN (gA mu fM 32))))))), (o 6, .inl (dA 1, 32, .inr (.inl fM)))] := hD
                      have e9 : (vp_updL (wrS (vp_updL fA (33 * k1) (mu / lN (gA mu fM 32))) (33 * k1 + 1) k (fun j => fM j / lN (gA mu fM 32))) (33 * k1 + 1 + k) ((fM k) / (lN (gA mu fM 32))) : Nat → Int64) = (wrS (vp_updL fA (33 * k1) (mu / lN (gA mu fM 32))) (33 * k1 + 1) (k + 1) (fun j => fM j / lN (gA mu fM 32))) := wr_s rfl rfl
                      rw [e9] at hP hD; clear e9
                      refine lv_iinc (v := nI (k + 1)) (lv' := [(5, .int (nI (k + 1))), (0, .ref (o 0)), (1, .int (nI k1)), (2, .long (lN (gA mu fM 32))), (4, .int (bI (pfB (mu / lN (gA mu fM 32)) (fun j => fM j / lN (gA mu fM 32)) 32)))]) hx hb dX7_puts_134 hl (k := 4) rfl (by exact nI_add _ 1) (by decide) rfl (fun ls hl => ?_)
                      refine lv_goto (tgt := 104) hx hb dX7_puts_137 (by decide) ?_
                      exact ih_3 (k + 1) H locs ls (by omega) (by omega) (hP.sub [0, 1, 2] rfl) (hD.sub [0, 1, 2] (by decide) rfl) hS (lv_sub hl [1, 2, 3, 4, 0] rfl)
                exact loop_3 _ 0 H locs ls (Nat.lt_succ_self _) (by omega) hP hD hS (lv_sub hl [1, 2, 3, 4, 0] rfl)
              · have hfit : fitB mu fM = false := bI_0 c_81
                refine lv_iconst (v := nI 0) hx hb dX7_puts_84 (by decide) ?_
                subst hQe
                exact W.zret (v := nI 0) hx hb hr rfl (fun t ht hW => ⟨⟨_, (fA, fM, mu), rfl, (by rw [fitS_f hfit]; exact ⟨rfl, rfl⟩), B1_at ht (hP.sub [0, 1, 2] rfl) (hD.sub [0, 1, 2] (by decide) rfl) trivial⟩, hS.F ht⟩) hS.2.2 dX7_puts_85
            · have c_51 : ¬ 32 ≤ k := fun h => c_51 ((nI_leI (a := 32) (b := k) (by omega) (by omega)).mpr h)
              refine lv_iload hx hb dX7_puts_54 (lv_at hl 3 rfl) ?_
              refine lv_if_eq (tgt := 79) hx hb dX7_puts_56 (by decide) (fun c_56 => ?_) (fun c_56 => ?_)
              · refine lv_iload hx hb dX7_puts_79 (lv_at hl 3 rfl) ?_
                refine lv_if_ne (tgt := 86) hx hb dX7_puts_81 (by decide) (fun c_81 => ?_) (fun c_81 => ?_)
                · exact absurd c_56 c_81
                · have hfit : fitB mu fM = false := pfB_mono (bI_0 c_56) hk9
                  refine lv_iconst (v := nI 0) hx hb dX7_puts_84 (by decide) ?_
                  subst hQe
                  exact W.zret (v := nI 0) hx hb hr rfl (fun t ht hW => ⟨⟨_, (fA, fM, mu), rfl, (by rw [fitS_f hfit]; exact ⟨rfl, rfl⟩), B1_at ht (hP.sub [0, 1, 2] rfl) (hD.sub [0, 1, 2] (by decide) rfl) trivial⟩, hS.F ht⟩) hS.2.2 dX7_puts_85
              · refine lv_aload_n hx hb dX7_puts_59 rfl (lv_at hl 0 rfl) ?_
                refine va_get (D := (dC, dI)) (ci := 2) (v := .ref (o 6)) (C := RX7) (T := TX7) (N := 27) hx hb hts in_X7 hown hK hP 0 rfl rfl 9 (by decide) (hts _ q2015) (fun _ h9 => h9) rfl dX7_puts_60 ?_
                refine lv_iload hx hb dX7_puts_63 (lv_at hl 4 rfl) ?_
                refine a_lald hx hb hK hP 2 1 rfl rfl (by omega) (by omega) dX7_puts_65 ?_
                refine lv_lload_n hx hb dX7_puts_66 rfl (lv_at hl 2 rfl) ?_
                refine lv_ldiv hx hb dX7_puts_67 hgz ?_
                refine s_i (va_runS (As := [.long ((fM k) / (lN (gA mu fM 32)))]) (rest := []) ⟨hx, hb, hml, hown, hts⟩ (x7_isSmall Z ((fM k) / (lN (gA mu fM 32)))) (va_cwS 1 hts (lw_S q2134 q2135 q107 q2136) rfl rfl rfl (by decide +kernel) ⟨Nat.le_of_ble_eq_true rfl, Nat.le_of_ble_eq_true rfl⟩) (gP_S hG hS (fun q _ h => h.elim) trivial) rfl rfl hl.1 rfl (lv_room (Nat.le_of_ble_eq_true rfl)) dX7_puts_68 ⟨by first | decide | omega, by first | decide | omega⟩) ?_
                refine e_i (y := bI (pfB (mu / lN (gA mu fM 32)) (fun j => fM j / lN (gA mu fM 32)) (k + 1))) ((by rw [pfB_s, bI_1 c_56, Bool.true_and])) ?_
                refine lv_istore (lv' := [(4, .int (bI (pfB (mu / lN (gA mu fM 32)) (fun j => fM j / lN (gA mu fM 32)) (k + 1)))), (0, .ref (o 0)), (1, .int (nI k1)), (2, .long (lN (gA mu fM 32))), (5, .int (nI k))]) hx hb dX7_puts_71 hl (by decide) rfl (fun ls hl => ?_)
                refine lv_iinc (v := nI (k + 1)) (lv' := [(5, .int (nI (k + 1))), (4, .int (bI (pfB (mu / lN (gA mu fM 32)) (fun j => fM j / lN (gA mu fM 32)) (k + 1)))), (0, .ref (o 0)), (1, .int (nI k1)), (2, .long (lN (gA mu fM 32)))]) hx hb dX7_puts_73 hl (k := 4) rfl (by exact nI_add _ 1) (by decide) rfl (fun ls hl => ?_)
                refine lv_goto (tgt := 47) hx hb dX7_puts_76 (by decide) ?_
                exact ih_2 (k + 1) H locs ls (by omega) (by omega) (hP.sub [0, 1, 2] rfl) (hD.sub [0, 1, 2] (by decide) rfl) hS (lv_sub hl [2, 3, 4, 1, 0] rfl)
        exact loop_2 _ 0 H locs ls (Nat.lt_succ_self _) (by omega) hP hD hS (lv_sub hl [2, 3, 4, 1, 0] rfl)
      · have c_12 : ¬ 32 ≤ k := fun h => c_12 ((nI_leI (a := 32) (b := k) (by omega) (by omega)).mpr h)
        refine lv_lload_n hx hb dX7_puts_15 rfl (lv_at hl 2 rfl) ?_
        refine lv_aload_n hx hb dX7_puts_16 rfl (lv_at hl 0 rfl) ?_
        refine va_get (D := (dC, dI)) (ci := 2) (v := .ref (o 6)) (C := RX7) (T := TX7) (N := 27) hx hb hts in_X7 hown hK hP 0 rfl rfl 9 (by decide) (hts _ q2015) (fun _ h9 => h9) rfl dX7_puts_17 ?_
        refine lv_iload hx hb dX7_puts_20 (lv_at hl 3 rfl) ?_
        refine a_lald hx hb hK hP 2 1 rfl rfl (by omega) (by omega) dX7_puts_22 ?_
        refine s_l (va_runS (As := [.long (lN (gA mu fM k)), .long (fM k)]) (rest := []) ⟨hx, hb, hml, hown, hts⟩ (x7_common Z (lN (gA mu fM k)) (fM k) (lN_min (hg1 k)) (hfm k (by omega))) (va_cwS 2 hts (lw_S q2131 q2132 q107 q2133) rfl rfl rfl (by decide +kernel) ⟨Nat.le_of_ble_eq_true rfl, Nat.le_of_ble_eq_true rfl⟩) (gP_S hG hS (fun q _ h => h.elim) trivial) rfl rfl hl.1 rfl (lv_room (Nat.le_of_ble_eq_true rfl)) dX7_puts_23 ⟨by first | decide | omega, by first | decide | omega⟩) ?_
        refine e_l (y := lN (gA mu fM (k + 1))) ((by show lN _ = lN (Nat.gcd _ _); rw [aN_lN (hg1 k)])) ?_
        refine lv_lstore_n (lv' := [(2, .long (lN (gA mu fM (k + 1)))), (0, .ref (o 0)), (1, .int (nI k1)), (4, .int (nI k))]) hx hb dX7_puts_26 rfl hl (by decide) rfl (fun ls hl => ?_)
        refine lv_iinc (v := nI (k + 1)) (lv' := [(4, .int (nI (k + 1))), (2, .long (lN (gA mu fM (k + 1)))), (0, .ref (o 0)), (1, .int (nI k1))]) hx hb dX7_puts_27 hl (k := 3) rfl (by exact nI_add _ 1) (by decide) rfl (fun ls hl => ?_)
        refine lv_goto (tgt := 8) hx hb dX7_puts_30 (by decide) ?_
        exact ih_1 (k + 1) H locs ls (by omega) (by omega) (hP.sub [0, 1, 2] rfl) (hD.sub [0, 1, 2] (by decide) rfl) hS (lv_sub hl [2, 3, 1, 0] rfl)
  exact loop_1 _ 0 s.heap [] ls (Nat.lt_succ_self _) (by omega) hP hD hS (lv_sub hl [2, 3, 1, 0] rfl)
set_option maxHeartbeats 4000000 in
theorem x7_multiplies {l : Launch} {dC : Nat → ClassId} {dI : Nat → Nat → Nat} {dA : Nat → ClassId} {s0 : State} {b0 : Addr} (Z : Z0 l dC dI dA s0 b0) (A : Nat → Prop) (sz : Nat) (hA : ∀ q : Nat, sz ≤ q → A q) (o : Nat → Nat) (th : Int32) (p0 q0 r0 : Nat) (mu : Int64) (zz : Nat → Int32) (fA fM : Nat → Int64) (kd k1 k2 k3 : Nat) (M N : MV) (hn : p0 + q0 + r0 ≤ 5) (h2 : 2 ≤ kd) (h6 : kd ≤ 6) (hk1 : k1 < 80) (hk2 : k2 < 80) (hk3 : k3 < 80) (hM : Hold fA k1 M) (hN : Hold fA k2 N) (sM : MSm M) (sN : MSm N) : Met l yX7_multiplies (ws_ yX7_multiplies cX7_multiplies 7 (some .boolean)) ({ frames := 4, cells := 0, slots := 0, locals := 240 } : Room) (gP [.ref (o 0), .int (nI kd), .int (nI k1), .int (nI k2), .int (nI k3)] s0 A (fun H => H.size = sz ∧ va_P (dC, dI) vwCl [(o 0, .inr (2, mFs o th p0 q0 r0 mu zz)), (o 5, .inl (dA 1, 2640, .inr (.inl fA))), (o 6, .inl (dA 1, 32, .inr (.inl fM)))] H ∧ va_D A [(o 0, .inr (2, mFs o th p0 q0 r0 mu zz)), (o 5, .inl (dA 1, 2640, .inr (.inl fA))), (o 6, .inl (dA 1, 32, .inr (.inl fM)))])) (va_Qi (S := (Nat → Int64) × (Nat → Int64) × Int64) (fun r u => PutPost fA k3 (mulS kd p0 q0 r0 M N) r u.1) (B1 (dC, dI) A (fun u => mC dA o th p0 q0 r0 u.2.2 zz u.1 u.2.1) (fun _ _ => True)) A) 0 0 A := by
  refine Met.ofW (cc := cX7_multiplies) (maxL := 7) (ret := (some .boolean)) (by decide) rfl ?_
  intro p e s m args below meth c s₁ B hml hv
  obtain ⟨hav, hG, hsz, hP, hD⟩ := hv
  have hx := B.exec
  have hb := B.bytes
  have hr := B.returns
  have hts := atoms_spec (ws := (ws_ yX7_multiplies cX7_multiplies 7 (some .boolean))) B.pre
  have hts : ∀ w ∈ lw_all, w.before _ s = true := fun w h => hts w (List.mem_cons_of_mem _ h)
  have hown : s.vm.findClass RX7 = some m.cls := findClass_of_methodNamed B.named
  have hlocks := B.notSynchronized
  have hK := hG.K Z
  subst hsz
  have hS : va_S A s.heap s.heap [] := va_S.rf
  have hl := lv_entry ([.ref (o 0), .int (nI kd), .int (nI k1), .int (nI k2), .int (nI k3)]) (n := 7) (Nat.le_of_ble_eq_true rfl)
  rw [show entryFrame m args 7 = entryFrame m ([.ref (o 0), .int (nI kd), .int (nI k1), .int (nI k2), .int (nI k3)] : List Value).toArray 7 from by rw [hav], lg_entry_eq]
  generalize (lg_sl ([.ref (o 0), .int (nI kd), .int (nI k1), .int (nI k2), .int (nI k3)]) ++ List.replicate (7 - (lg_sl ([.ref (o 0), .int (nI kd), .int (nI k1), .int (nI k2), .int (nI k3)])).length) Slot.unset).toArray = ls at hl ⊢
  have hl : lv_has ls 7 [(0, .ref (o 0)), (1, .int (nI kd)), (2, .int (nI k1)), (3, .int (nI k2)), (4, .int (nI k3))] := hl
  generalize hQe : MQ below _ _ s _ _ _ = Q
  change W p l e ({ frames := 4, cells := 0, slots := 0, locals := 240 } : Room) s m args below meth c s.heap [] 0 0 Q (F0 m 0 ls [])
  have h5 := pow5 hn
  refine lv_aload_n hx hb dX7_multiplies_0 rfl (lv_at hl 0 rfl) ?_
  have hF9 := va_free (wc := [(o 0, .inr (2, mFs o th p0 q0 r0 mu zz)), (o 5, .inl (dA 1, 2640, .inr (.inl fA))), (o 6, .inl (dA 1, 32, .inr (.inl fM)))]) hD hS (fun q h => hA q h) [0, 1, 2] rfl
  refine c_v (wr := []) (va_runV (As := []) (rest := []) ⟨hx, hb, hml, hown, hts⟩ (x7_clearsMade Z (va_A [(o 0, .inr (2, mFs o th p0 q0 r0 mu zz)), (o 5, .inl (dA 1, 2640, .inr (.inl fA))), (o 6, .inl (dA 1, 32, .inr (.inl fM)))] s.heap.size) s.heap.size (fun q h => Or.inr h) o th p0 q0 r0 mu zz fA fM) (cwV 0 hts (lw_V q2115 q2117 qs37 q107 q2118) rfl rfl rfl (by decide +kernel) ⟨Nat.le_of_ble_eq_true rfl, Nat.le_of_ble_eq_true rfl⟩) (gP_V (va_recv hK hP (ci := 2) (q0 := 0) rfl rfl) hG hS (fun q _ h => hF9 q h) ⟨rfl, (hP.sub (ws' := [(o 0, .inr (2, mFs o th p0 q0 r0 mu zz)), (o 5, .inl (dA 1, 2640, .inr (.inl fA))), (o 6, .inl (dA 1, 32, .inr (.inl fM)))]) [0, 1, 2] rfl), (hD.sub (ws' := [(o 0, .inr (2, mFs o th p0 q0 r0 mu zz)), (o 5, .inl (dA 1, 2640, .inr (.inl fA))), (o 6, .inl (dA 1, 32, .inr (.inl fM)))]) [0, 1, 2] (by decide) rfl).self⟩) rfl rfl hl.1 rfl (lv_room (Nat.le_of_ble_eq_true rfl)) dX7_multiplies_1 ⟨by first | decide | omega, by first | decide | omega⟩) hP hD hS hA [0, 1, 2] [] rfl rfl (by decide) (by decide) (fun u9 H locs hq hX hz hk hP hD hS => ?_)
  have hP : va_P (dC, dI) vwCl [(o 0, .inr (2, mFs o th p0 q0 r0 1 zz)), (o 5, .inl (dA 1, 2640, .inr (.inl fA))), (o 6, .inl (dA 1, 32, .inr (.inl (fun _ => 0))))] H := hP
  have hD : va_D A [(o 0, .inr (2, mFs o th p0 q0 r0 1 zz)), (o 5, .inl (dA 1, 2640, .inr (.inl fA))), (o 6, .inl (dA 1, 32, .inr (.inl (fun _ => 0))))] := hD
  refine lv_iconst (v := nI 0) hx hb dX7_multiplies_4 (by decide) ?_
  refine lv_istore (lv' := [(5, .int (nI 0)), (0, .ref (o 0)), (1, .int (nI kd)), (2, .int (nI k1)), (3, .int (nI k2)), (4, .int (nI k3))]) hx hb dX7_multiplies_5 hl (by decide) rfl (fun ls hl => ?_)
  have e9 : (fun _ => 0 : Nat → Int64) = (mulA kd p0 q0 r0 M N 0) := rfl
  rw [e9] at hP hD; clear e9
  have loop_1 : ∀ (n9_1 : Nat) (a : Nat) (H : Heap) (locs : List Loc) (ls : Array Slot), 33 - a < n9_1 → (a ≤ 2 ^ (p0 + q0 + r0)) → va_P (dC, dI) vwCl [(o 0, .inr (2, mFs o th p0 q0 r0 1 zz)), (o 5, .inl (dA 1, 2640, .inr (.inl fA))), (o 6, .inl (dA 1, 32, .inr (.inl (mulA kd p0 q0 r0 M N a))))] H → va_D A [(o 0, .inr (2, mFs o th p0 q0 r0 1 zz)), (o 5, .inl (dA 1, 2640, .inr (.inl fA))), (o 6, .inl (dA 1, 32, .inr (.inl (mulA kd p0 q0 r0 M N a))))] → va_S A s.heap H locs → lv_has ls 7 [(0, .ref (o 0)), (1, .int (nI kd)), (2, .int (nI k1)), (3, .int (nI k2)), (4, .int (nI k3)), (5, .int (nI a))] → W p l e ({ frames := 4, cells := 0, slots := 0, locals := 240 } : Room) s m args below meth c H locs 0 0 Q (F0 m 7 ls []) := by
    intro n9_1
    induction n9_1 with
    | zero => intro a H locs ls hm_1; exact absurd hm_1 (Nat.not_lt_zero _)
    | succ n9_1 ih_1 =>
      intro a H locs ls hm_1 ha8 hP hD hS hl
      refine lv_iload hx hb dX7_multiplies_7 (lv_at hl 5 rfl) ?_
      refine lv_aload_n hx hb dX7_multiplies_9 rfl (lv_at hl 0 rfl) ?_
      refine s_i (va_runV (As := []) (rest := [.int (nI a)]) ⟨hx, hb, hml, hown, hts⟩ (x7_full Z o th p0 q0 r0 1 zz (by omega)) (cwV 0 hts (lw_V q2147 q2149 qs43 q107 q2150) rfl rfl rfl (by decide +kernel) ⟨Nat.le_of_ble_eq_true rfl, Nat.le_of_ble_eq_true rfl⟩) (gP_V (va_recv hK hP (ci := 2) (q0 := 0) rfl rfl) hG hS (fun q _ h => h.elim) (hP.sub (ws' := [(o 0, .inr (2, mFs o th p0 q0 r0 1 zz))]) [0] rfl)) rfl rfl hl.1 rfl (lv_room (Nat.le_of_ble_eq_true rfl)) dX7_multiplies_10 ⟨by first | decide | omega, by first | decide | omega⟩) ?_
      refine lv_icmp_gt (tgt := 113) hx hb dX7_multiplies_13 (by decide) (fun c_13 => ?_) (fun c_13 => ?_)
      · have c_13 : (2 ^ (p0 + q0 + r0) - 1) < a := (nI_ltI (a := (2 ^ (p0 + q0 + r0) - 1)) (b := a) (by omega) (by omega)).mp c_13
        obtain rfl : a = 2 ^ (p0 + q0 + r0) := by omega
        refine lv_aload_n hx hb dX7_multiplies_113 rfl (lv_at hl 0 rfl) ?_
        refine lv_aload_n hx hb dX7_multiplies_114 rfl (lv_at hl 0 rfl) ?_
        refine lv_iload_n hx hb dX7_multiplies_115 rfl (lv_at hl 2 rfl) ?_
        refine s_l (va_runV (As := [.int (nI k1)]) (rest := [.ref (o 0)]) ⟨hx, hb, hml, hown, hts⟩ (x7_under Z o th p0 q0 r0 1 zz fA k1 (by omega)) (cwV 1 hts (lw_V q2123 q2125 qs39 q107 q2126) rfl rfl rfl (by decide +kernel) ⟨Nat.le_of_ble_eq_true rfl, Nat.le_of_ble_eq_true rfl⟩) (gP_V (va_recv hK hP (ci := 2) (q0 := 0) rfl rfl) hG hS (fun q _ h => h.elim) (hP.sub (ws' := [(o 0, .inr (2, mFs o th p0 q0 r0 1 zz)), (o 5, .inl (dA 1, 2640, .inr (.inl fA)))]) [0, 1] rfl)) rfl rfl hl.1 rfl (lv_room (Nat.le_of_ble_eq_true rfl)) dX7_multiplies_116 ⟨by first | decide | omega, by first | decide | omega⟩) ?_
        refine e_l (y := M 0) (hold_at hM (i := 0) (by omega) (by omega)) ?_
        refine lv_aload_n hx hb dX7_multiplies_119 rfl (lv_at hl 0 rfl) ?_
        refine lv_iload_n hx hb dX7_multiplies_120 rfl (lv_at hl 3 rfl) ?_
        refine s_l (va_runV (As := [.int (nI k2)]) (rest := [.long (M 0), .ref (o 0)]) ⟨hx, hb, hml, hown, hts⟩ (x7_under Z o th p0 q0 r0 1 zz fA k2 (by omega)) (cwV 1 hts (lw_V q2123 q2125 qs39 q107 q2126) rfl rfl rfl (by decide +kernel) ⟨Nat.le_of_ble_eq_true rfl, Nat.le_of_ble_eq_true rfl⟩) (gP_V (va_recv hK hP (ci := 2) (q0 := 0) rfl rfl) hG hS (fun q _ h => h.elim) (hP.sub (ws' := [(o 0, .inr (2, mFs o th p0 q0 r0 1 zz)), (o 5, .inl (dA 1, 2640, .inr (.inl fA)))]) [0, 1] rfl)) rfl rfl hl.1 rfl (lv_room (Nat.le_of_ble_eq_true rfl)) dX7_multiplies_121 ⟨by first | decide | omega, by first | decide | omega⟩) ?_
        refine e_l (y := N 0) (hold_at hN (i := 0) (by omega) (by omega)) ?_
        refine lv_lmul hx hb dX7_multiplies_124 ?_
        refine va_put (D := (dC, dI)) (ci := 2) (v := .long ((M 0) * (N 0))) (ty := .long) (C := RX7) (T := TX7) (N := 27) hx hb hts in_X7 tyX7 tyX7_ok nmX7 hown hK hP hD hS 0 rfl rfl 10 (by decide) (hts _ q2016) (fun _ h9 => h9) rfl (by decide +kernel) rfl rfl (Nat.le_of_ble_eq_true rfl) dX7_multiplies_125 (fun H locs hP hD hS => ?_)
        have hP : va_P (dC, dI) vwCl [(o 0, .inr (2, mFs o th p0 q0 r0 ((M 0) * (N 0)) zz)), (o 5, .inl (dA 1, 2640, .inr (.inl fA))), (o 6, .inl (dA 1, 32, .inr (.inl (mulA kd p0 q0 r0 M N (2 ^ (p0 + q0 + r0))))))] H := hP
        have hD : va_D A [(o 0, .inr (2, mFs o th p0 q0 r0 ((M 0) * (N 0)) zz)), (o 5, .inl (dA 1, 2640, .inr (.inl fA))), (o 6, .inl (dA 1, 32, .inr (.inl (mulA kd p0 q0 r0 M N (2 ^ (p0 + q0 + r0))))))] := hD
        refine lv_aload_n hx hb dX7_multiplies_128 rfl (lv_at hl 0 rfl) ?_
        refine lv_iload hx hb dX7_multiplies_129 (lv_at hl 4 rfl) ?_
        have hF9 := va_free (wc := [(o 0, .inr (2, mFs o th p0 q0 r0 ((M 0) * (N 0)) zz)), (o 5, .inl (dA 1, 2640, .inr (.inl fA))), (o 6, .inl (dA 1, 32, .inr (.inl (mulA kd p0 q0 r0 M N (2 ^ (p0 + q0 + r0))))))]) hD hS (fun q h => hA q h) [0, 1, 2] rfl
        refine c_i (wr := []) (va_runV (As := [.int (nI k3)]) (rest := []) ⟨hx, hb, hml, hown, hts⟩ (x7_puts Z (va_A [(o 0, .inr (2, mFs o th p0 q0 r0 ((M 0) * (N 0)) zz)), (o 5, .inl (dA 1, 2640, .inr (.inl fA))), (o 6, .inl (dA 1, 32, .inr (.inl (mulA kd p0 q0 r0 M N (2 ^ (p0 + q0 + r0))))))] H.size) H.size (fun q h => Or.inr h) o th p0 q0 r0 ((M 0) * (N 0)) zz fA (mulA kd p0 q0 r0 M N (2 ^ (p0 + q0 + r0))) k3 (by omega) (und_bd sM sN).1 (fun j _ => mulR_nm sM sN hn j)) (cwV 1 hts (lw_V q2127 q2129 qs40 q107 q2130) rfl rfl rfl (by decide +kernel) ⟨Nat.le_of_ble_eq_true rfl, Nat.le_of_ble_eq_true rfl⟩) (gP_V (va_recv hK hP (ci := 2) (q0 := 0) rfl rfl) hG hS (fun q _ h => hF9 q h) ⟨rfl, (hP.sub (ws' := [(o 0, .inr (2, mFs o th p0 q0 r0 ((M 0) * (N 0)) zz)), (o 5, .inl (dA 1, 2640, .inr (.inl fA))), (o 6, .inl (dA 1, 32, .inr (.inl (mulA kd p0 q0 r0 M N (2 ^ (p0 + q0 + r0))))))]) [0, 1, 2] rfl), (hD.sub (ws' := [(o 0, .inr (2, mFs o th p0 q0 r0 ((M 0) * (N 0)) zz)), (o 5, .inl (dA 1, 2640, .inr (.inl fA))), (o 6, .inl (dA 1, 32, .inr (.inl (mulA kd p0 q0 r0 M N (2 ^ (p0 + q0 + r0))))))]) [0, 1, 2] (by decide) rfl).self⟩) rfl rfl hl.1 rfl (lv_room (Nat.le_of_ble_eq_true rfl)) dX7_multiplies_131 ⟨by first | decide | omega, by first | decide | omega⟩) hP hD hS hA [0, 1, 2] [] rfl rfl (by decide) (by decide) (fun r9 u9 H locs hq hX hz hk hP hD hS => ?_)
        obtain ⟨fA_2, fM_3, mu_4⟩ := u9
        obtain ⟨r_5, rfl⟩ : ∃ z, z = r9 := ⟨_, rfl⟩
        have hq_6 := hq
        have hP : va_P (dC, dI) vwCl [(o 0, .inr (2, mFs o th p0 q0 r0 mu_4 zz)), (o 5, .inl (dA 1, 2640, .inr (.inl fA_2))), (o 6, .inl (dA 1, 32, .inr (.inl fM_3)))] H := hP
        have hD : va_D A [(o 0, .inr (2, mFs o th p0 q0 r0 mu_4 zz)), (o 5, .inl (dA 1, 2640, .inr (.inl fA_2))), (o 6, .inl (dA 1, 32, .inr (.inl fM_3)))] := hD
        subst hQe
        exact W.zret (v := r_5) hx hb hr (PutPost.z hq) (fun t ht hW => ⟨⟨_, (fA_2, fM_3, mu_4), rfl, hq, B1_at ht (hP.sub [0, 1, 2] rfl) (hD.sub [0, 1, 2] (by decide) rfl) trivial⟩, hS.F ht⟩) hS.2.2 dX7_multiplies_134
      · have c_13 : ¬ (2 ^ (p0 + q0 + r0) - 1) < a := fun h => c_13 ((nI_ltI (a := (2 ^ (p0 + q0 + r0) - 1)) (b := a) (by omega) (by omega)).mpr h)
        have ha9 : a < 32 := by omega
        refine lv_iconst (v := nI 0) hx hb dX7_multiplies_16 (by decide) ?_
        refine lv_istore (lv' := [(6, .int (nI 0)), (0, .ref (o 0)), (1, .int (nI kd)), (2, .int (nI k1)), (3, .int (nI k2)), (4, .int (nI k3)), (5, .int (nI a))]) hx hb dX7_multiplies_17 hl (by decide) rfl (fun ls hl => ?_)
        have e9 : (mulA kd p0 q0 r0 M N a : Nat → Int64) = (mulB kd p0 q0 r0 M N a 0) := (mulB_0 _ _ _ _ _ _ _).symm
        rw [e9] at hP hD; clear e9
        have loop_7 : ∀ (n9_7 : Nat) (b : Nat) (H : Heap) (locs : List Loc) (ls : Array Slot), 33 - b < n9_7 → (b ≤ 2 ^ (p0 + q0 + r0)) → va_P (dC, dI) vwCl [(o 0, .inr (2, mFs o th p0 q0 r0 1 zz)), (o 5, .inl (dA 1, 2640, .inr (.inl fA))), (o 6, .inl (dA 1, 32, .inr (.inl (mulB kd p0 q0 r0 M N a b))))] H → va_D A [(o 0, .inr (2, mFs o th p0 q0 r0 1 zz)), (o 5, .inl (dA 1, 2640, .inr (.inl fA))), (o 6, .inl (dA 1, 32, .inr (.inl (mulB kd p0 q0 r0 M N a b))))] → va_S A s.heap H locs → lv_has ls 7 [(0, .ref (o 0)), (1, .int (nI kd)), (2, .int (nI k1)), (3, .int (nI k2)), (4, .int (nI k3)), (5, .int (nI a)), (6, .int (nI b))] → W p l e ({ frames := 4, cells := 0, slots := 0, locals := 240 } : Room) s m args below meth c H locs 0 0 Q (F0 m 19 ls []) := by
          intro n9_7
          induction n9_7 with
          | zero => intro b H locs ls hm_7; exact absurd hm_7 (Nat.not_lt_zero _)
          | succ n9_7 ih_7 =>
            intro b H locs ls hm_7 hb8 hP hD hS hl
            refine lv_iload hx hb dX7_multiplies_19 (lv_at hl 6 rfl) ?_
            refine lv_aload_n hx hb dX7_multiplies_21 rfl (lv_at hl 0 rfl) ?_
            refine s_i (va_runV (As := []) (rest := [.int (nI b)]) ⟨hx, hb, hml, hown, hts⟩ (x7_full Z o th p0 q0 r0 1 zz (by omega)) (cwV 0 hts (lw_V q2147 q2149 qs43 q107 q2150) rfl rfl rfl (by decide +kernel) ⟨Nat.le_of_ble_eq_true rfl, Nat.le_of_ble_eq_true rfl⟩) (gP_V (va_recv hK hP (ci := 2) (q0 := 0) rfl rfl) hG hS (fun q _ h => h.elim) (hP.sub (ws' := [(o 0, .inr (2, mFs o th p0 q0 r0 1 zz))]) [0] rfl)) rfl rfl hl.1 rfl (lv_room (Nat.le_of_ble_eq_true rfl)) dX7_multiplies_22 ⟨by first | decide | omega, by first | decide | omega⟩) ?_
            refine lv_icmp_gt (tgt := 107) hx hb dX7_multiplies_25 (by decide) (fun c_25 => ?_) (fun c_25 => ?_)
            · have c_25 : (2 ^ (p0 + q0 + r0) - 1) < b := (nI_ltI (a := (2 ^ (p0 + q0 + r0) - 1)) (b := b) (by omega) (by omega)).mp c_25
              obtain rfl : b = 2 ^ (p0 + q0 + r0) := by omega
              have e9 : (mulB kd p0 q0 r0 M N a (2 ^ (p0 + q0 + r0)) : Nat → Int64) = (mulA kd p0 q0 r0 M N (a + 1)) := rfl
              rw [e9] at hP hD; clear e9
              refine lv_iinc (v := nI (a + 1)) (lv' := [(5, .int (nI (a + 1))), (0, .ref (o 0)), (1, .int (nI kd)), (2, .int (nI k1)), (3, .int (nI k2)), (4, .int (nI k3)), (6, .int (nI (2 ^ (p0 + q0 + r0))))]) hx hb dX7_multiplies_107 hl (k := 5) rfl (by exact nI_add _ 1) (by decide) rfl (fun ls hl => ?_)
              refine lv_goto (tgt := 7) hx hb dX7_multiplies_110 (by decide) ?_
              exact ih_1 (a + 1) H locs ls (by omega) (by omega) (hP.sub [0, 1, 2] rfl) (hD.sub [0, 1, 2] (by decide) rfl) hS (lv_sub hl [1, 2, 3, 4, 5, 0] rfl)
            · have c_25 : ¬ (2 ^ (p0 + q0 + r0) - 1) < b := fun h => c_25 ((nI_ltI (a := (2 ^ (p0 + q0 + r0) - 1)) (b := b) (by omega) (by omega)).mpr h)
              have hb9 : b < 32 := by omega
              refine lv_aload_n hx hb dX7_multiplies_28 rfl (lv_at hl 0 rfl) ?_
              refine lv_iload_n hx hb dX7_multiplies_29 rfl (lv_at hl 2 rfl) ?_
              refine lv_iload hx hb dX7_multiplies_30 (lv_at hl 5 rfl) ?_
              refine s_l (va_runV (As := [.int (nI k1), .int (nI a)]) (rest := []) ⟨hx, hb, hml, hown, hts⟩ (x7_of Z o th p0 q0 r0 1 zz fA k1 a (by omega)) (cwV 2 hts (lw_V q2119 q2121 qs38 q107 q2122) rfl rfl rfl (by decide +kernel) ⟨Nat.le_of_ble_eq_true rfl, Nat.le_of_ble_eq_true rfl⟩) (gP_V (va_recv hK hP (ci := 2) (q0 := 0) rfl rfl) hG hS (fun q _ h => h.elim) (hP.sub (ws' := [(o 0, .inr (2, mFs o th p0 q0 r0 1 zz)), (o 5, .inl (dA 1, 2640, .inr (.inl fA)))]) [0, 1] rfl)) rfl rfl hl.1 rfl (lv_room (Nat.le_of_ble_eq_true rfl)) dX7_multiplies_32 ⟨by first | decide | omega, by first | decide | omega⟩) ?_
              refine e_l (y := M (a + 1)) (hold_at hM (i := a + 1) (by omega) (by omega)) ?_
              refine lv_lconst (v := 0) hx hb dX7_multiplies_35 rfl ?_
              refine W.lcmp hx hb dX7_multiplies_36 ?_
              refine lv_if_eq (tgt := 101) hx hb dX7_multiplies_37 (by decide) (fun c_37 => ?_) (fun c_37 => ?_)
              · have c_37 : (M (a + 1)) = 0 := (lg_cmp_eq _ _).mp c_37
                have e9 : (mulB kd p0 q0 r0 M N a b : Nat → Int64) = (mulB kd p0 q0 r0 M N a (b + 1)) := mulB_n (mt_a c_37)
                rw [e9] at hP hD; clear e9
                refine lv_iinc (v := nI (b + 1)) (lv' := [(6, .int (nI (b + 1))), (0, .ref (o 0)), (1, .int (nI kd)), (2, .int (nI k1)), (3, .int (nI k2)), (4, .int (nI k3)), (5, .int (nI a))]) hx hb dX7_multiplies_101 hl (k := 6) rfl (by exact nI_add _ 1) (by decide) rfl (fun ls hl => ?_)
                refine lv_goto (tgt := 19) hx hb dX7_multiplies_104 (by decide) ?_
                exact ih_7 (b + 1) H locs ls (by omega) (by omega) (hP.sub [0, 1, 2] rfl) (hD.sub [0, 1, 2] (by decide) rfl) hS (lv_sub hl [1, 2, 3, 4, 5, 6, 0] rfl)
              · have c_37 : ¬ (M (a + 1)) = 0 := fun h => c_37 ((lg_cmp_eq _ _).mpr h)
                refine lv_aload_n hx hb dX7_multiplies_40 rfl (lv_at hl 0 rfl) ?_
                refine lv_iload_n hx hb dX7_multiplies_41 rfl (lv_at hl 3 rfl) ?_
                refine lv_iload hx hb dX7_multiplies_42 (lv_at hl 6 rfl) ?_
                refine s_l (va_runV (As := [.int (nI k2), .int (nI b)]) (rest := []) ⟨hx, hb, hml, hown, hts⟩ (x7_of Z o th p0 q0 r0 1 zz fA k2 b (by omega)) (cwV 2 hts (lw_V q2119 q2121 qs38 q107 q2122) rfl rfl rfl (by decide +kernel) ⟨Nat.le_of_ble_eq_true rfl, Nat.le_of_ble_eq_true rfl⟩) (gP_V (va_recv hK hP (ci := 2) (q0 := 0) rfl rfl) hG hS (fun q _ h => h.elim) (hP.sub (ws' := [(o 0, .inr (2, mFs o th p0 q0 r0 1 zz)), (o 5, .inl (dA 1, 2640, .inr (.inl fA)))]) [0, 1] rfl)) rfl rfl hl.1 rfl (lv_room (Nat.le_of_ble_eq_true rfl)) dX7_multiplies_44 ⟨by first | decide | omega, by first | decide | omega⟩) ?_
                refine e_l (y := N (b + 1)) (hold_at hN (i := b + 1) (by omega) (by omega)) ?_
                refine lv_lconst (v := 0) hx hb dX7_multiplies_47 rfl ?_
                refine W.lcmp hx hb dX7_multiplies_48 ?_
                refine lv_if_eq (tgt := 101) hx hb dX7_multiplies_49 (by decide) (fun c_49 => ?_) (fun c_49 => ?_)
                · have c_49 : (N (b + 1)) = 0 := (lg_cmp_eq _ _).mp c_49
                  have e9 : (mulB kd p0 q0 r0 M N a b : Nat → Int64) = (mulB kd p0 q0 r0 M N a (b + 1)) := mulB_n (mt_b c_49)
                  rw [e9] at hP hD; clear e9
                  refine lv_iinc (v := nI (b + 1)) (lv' := [(6, .int (nI (b + 1))), (0, .ref (o 0)), (1, .int (nI kd)), (2, .int (nI k1)), (3, .int (nI k2)), (4, .int (nI k3)), (5, .int (nI a))]) hx hb dX7_multiplies_101 hl (k := 6) rfl (by exact nI_add _ 1) (by decide) rfl (fun ls hl => ?_)
                  refine lv_goto (tgt := 19) hx hb dX7_multiplies_104 (by decide) ?_
                  exact ih_7 (b + 1) H locs ls (by omega) (by omega) (hP.sub [0, 1, 2] rfl) (hD.sub [0, 1, 2] (by decide) rfl) hS (lv_sub hl [1, 2, 3, 4, 5, 6, 0] rfl)
                · have c_49 : ¬ (N (b + 1)) = 0 := fun h => c_49 ((lg_cmp_eq _ _).mpr h)
                  refine lv_iload_n hx hb dX7_multiplies_52 rfl (lv_at hl 1 rfl) ?_
                  refine lv_iload hx hb dX7_multiplies_53 (lv_at hl 5 rfl) ?_
                  refine lv_iload hx hb dX7_multiplies_55 (lv_at hl 6 rfl) ?_
                  refine s_i (va_runS (As := [.int (nI kd), .int (nI a), .int (nI b)]) (rest := []) ⟨hx, hb, hml, hown, hts⟩ (x7_isTaken Z kd a b (by omega) (by omega) (by omega) (by omega)) (va_cwS 3 hts (lw_S q2172 q2173 q107 q2174) rfl rfl rfl (by decide +kernel) ⟨Nat.le_of_ble_eq_true rfl, Nat.le_of_ble_eq_true rfl⟩) (gP_S hG hS (fun q _ h => h.elim) trivial) rfl rfl hl.1 rfl (lv_room (Nat.le_of_ble_eq_true rfl)) dX7_multiplies_57 ⟨by first | decide | omega, by first | decide | omega⟩) ?_
                  refine lv_if_eq (tgt := 101) hx hb dX7_multiplies_60 (by decide) (fun c_60 => ?_) (fun c_60 => ?_)
                  · have e9 : (mulB kd p0 q0 r0 M N a b : Nat → Int64) = (mulB kd p0 q0 r0 M N a (b + 1)) := mulB_n (mt_t (bI_0 c_60))
                    rw [e9] at hP hD; clear e9
                    refine lv_iinc (v := nI (b + 1)) (lv' := [(6, .int (nI (b + 1))), (0, .ref (o 0)), (1, .int (nI kd)), (2, .int (nI k1)), (3, .int (nI k2)), (4, .int (nI k3)), (5, .int (nI a))]) hx hb dX7_multiplies_101 hl (k := 6) rfl (by exact nI_add _ 1) (by decide) rfl (fun ls hl => ?_)
                    refine lv_goto (tgt := 19) hx hb dX7_multiplies_104 (by decide) ?_
                    exact ih_7 (b + 1) H locs ls (by omega) (by omega) (hP.sub [0, 1, 2] rfl) (hD.sub [0, 1, 2] (by decide) rfl) hS (lv_sub hl [1, 2, 3, 4, 5, 6, 0] rfl)
                  · refine lv_aload_n hx hb dX7_multiplies_63 rfl (lv_at hl 0 rfl) ?_
                    refine va_get (D := (dC, dI)) (ci := 2) (v := .ref (o 6)) (C := RX7) (T := TX7) (N := 27) hx hb hts in_X7 hown hK hP 0 rfl rfl 9 (by decide) (hts _ q2015) (fun _ h9 => h9) rfl dX7_multiplies_64 ?_
                    refine lv_iload hx hb dX7_multiplies_67 (lv_at hl 5 rfl) ?_
                    refine lv_iload hx hb dX7_multiplies_69 (lv_at hl 6 rfl) ?_
                    refine lv_ixor hx hb dX7_multiplies_71 ?_
                    refine e_i (y := nI (a ^^^ b)) (n_xor _ _) ?_
                    refine lv_dup2_11 hx hb dX7_multiplies_72 rfl rfl ?_
                    refine a_lald hx hb hK hP 2 1 rfl rfl (xor32 ha9 hb9) (by omega) dX7_multiplies_73 ?_
                    refine lv_aload_n hx hb dX7_multiplies_74 rfl (lv_at hl 0 rfl) ?_
                    refine lv_iload hx hb dX7_multiplies_75 (lv_at hl 5 rfl) ?_
                    refine lv_iload hx hb dX7_multiplies_77 (lv_at hl 6 rfl) ?_
                    refine s_i (va_runV (As := [.int (nI a), .int (nI b)]) (rest := [.long ((mulB kd p0 q0 r0 M N a b) (a ^^^ b)), .int (nI (a ^^^ b)), .ref (o 6)]) ⟨hx, hb, hml, hown, hts⟩ (x7_signOf Z o th p0 q0 r0 1 zz a b (by omega) (by omega) (by omega)) (cwV 2 hts (lw_V q2161 q2163 qs45 q107 q2164) rfl rfl rfl (by decide +kernel) ⟨Nat.le_of_ble_eq_true rfl, Nat.le_of_ble_eq_true rfl⟩) (gP_V (va_recv hK hP (ci := 2) (q0 := 0) rfl rfl) hG hS (fun q _ h => h.elim) (hP.sub (ws' := [(o 0, .inr (2, mFs o th p0 q0 r0 1 zz))]) [0] rfl)) rfl rfl hl.1 rfl (lv_room (Nat.le_of_ble_eq_true rfl)) dX7_multiplies_79 ⟨by first | decide | omega, by first | decide | omega⟩) ?_
                    refine lv_i2l (v := (sgS p0 q0 r0 a b).toInt64) hx hb dX7_multiplies_82 rfl ?_
                    refine lv_aload_n hx hb dX7_multiplies_83 rfl (lv_at hl 0 rfl) ?_
                    refine lv_iload_n hx hb dX7_multiplies_84 rfl (lv_at hl 2 rfl) ?_
                    refine lv_iload hx hb dX7_multiplies_85 (lv_at hl 5 rfl) ?_
                    refine s_l (va_runV (As := [.int (nI k1), .int (nI a)]) (rest := [.long ((sgS p0 q0 r0 a b).toInt64), .long ((mulB kd p0 q0 r0 M N a b) (a ^^^ b)), .int (nI (a ^^^ b)), .ref (o 6)]) ⟨hx, hb, hml, hown, hts⟩ (x7_of Z o th p0 q0 r0 1 zz fA k1 a (by omega)) (cwV 2 hts (lw_V q2119 q2121 qs38 q107 q2122) rfl rfl rfl (by decide +kernel) ⟨Nat.le_of_ble_eq_true rfl, Nat.le_of_ble_eq_true rfl⟩) (gP_V (va_recv hK hP (ci := 2) (q0 := 0) rfl rfl) hG hS (fun q _ h => h.elim) (hP.sub (ws' := [(o 0, .inr (2, mFs o th p0 q0 r0 1 zz)), (o 5, .inl (dA 1, 2640, .inr (.inl fA)))]) [0, 1] rfl)) rfl rfl hl.1 rfl (lv_room (Nat.le_of_ble_eq_true rfl)) dX7_multiplies_87 ⟨by first | decide | omega, by first | decide | omega⟩) ?_
                    refine e_l (y := M (a + 1)) (hold_at hM (i := a + 1) (by omega) (by omega)) ?_
                    refine lv_lmul hx hb dX7_multiplies_90 ?_
                    refine lv_aload_n hx hb dX7_multiplies_91 rfl (lv_at hl 0 rfl) ?_
                    refine lv_iload_n hx hb dX7_multiplies_92 rfl (lv_at hl 3 rfl) ?_
                    refine lv_iload hx hb dX7_multiplies_93 (lv_at hl 6 rfl) ?_
                    refine s_l (va_runV (As := [.int (nI k2), .int (nI b)]) (rest := [.long (((sgS p0 q0 r0 a b).toInt64) * (M (a + 1))), .long ((mulB kd p0 q0 r0 M N a b) (a ^^^ b)), .int (nI (a ^^^ b)), .ref (o 6)]) ⟨hx, hb, hml, hown, hts⟩ (x7_of Z o th p0 q0 r0 1 zz fA k2 b (by omega)) (cwV 2 hts (lw_V q2119 q2121 qs38 q107 q2122) rfl rfl rfl (by decide +kernel) ⟨Nat.le_of_ble_eq_true rfl, Nat.le_of_ble_eq_true rfl⟩) (gP_V (va_recv hK hP (ci := 2) (q0 := 0) rfl rfl) hG hS (fun q _ h => h.elim) (hP.sub (ws' := [(o 0, .inr (2, mFs o th p0 q0 r0 1 zz)), (o 5, .inl (dA 1, 2640, .inr (.inl fA)))]) [0, 1] rfl)) rfl rfl hl.1 rfl (lv_room (Nat.le_of_ble_eq_true rfl)) dX7_multiplies_95 ⟨by first | decide | omega, by first | decide | omega⟩) ?_
                    refine e_l (y := N (b + 1)) (hold_at hN (i := b + 1) (by omega) (by omega)) ?_
                    refine lv_lmul hx hb dX7_multiplies_98 ?_
                    refine lv_ladd hx hb dX7_multiplies_99 ?_
                    refine a_last hx hb hK hP hD hS 2 1 rfl rfl (xor32 ha9 hb9) (by omega) dX7_multiplies_100 (fun H locs hP hD hS => ?_)
                    have hP : va_P (dC, dI) vwCl [(o 0, .inr (2, mFs o th p0 q0 r0 1 zz)), (o 5, .inl (dA 1, 2640, .inr (.inl fA))), (o 6, .inl (dA 1, 32, .inr (.inl (vp_updL (mulB kd p0 q0 r0 M N a b) (a ^^^ b) (((mulB kd p0 q0 r0 M N a b) (a ^^^ b)) + ((((sgS p0 q0 r0 a b).toInt64) * (M (a + 1))) * (N (b + 1))))))))] H := hP
                    have hD : va_D A [(o 0, .inr (2, mFs o th p0 q0 r0 1 zz)), (o 5, .inl (dA 1, 2640, .inr (.inl fA))), (o 6, .inl (dA 1, 32, .inr (.inl (vp_updL (mulB kd p0 q0 r0 M N a b) (a ^^^ b) (((mulB kd p0 q0 r0 M N a b) (a ^^^ b)) + ((((sgS p0 q0 r0 a b).toInt64) * (M (a + 1))) * (N (b + 1))))))))] := hD
                    have e9 : (vp_updL (mulB kd p0 q0 r0 M N a b) (a ^^^ b) (((mulB kd p0 q0 r0 M N a b) (a ^^^ b)) + ((((sgS p0 q0 r0 a b).toInt64) * (M (a + 1))) * (N (b + 1)))) : Nat → Int64) = (mulB kd p0 q0 r0 M N a (b + 1)) := mulB_s (bI_1 c_60)
                    rw [e9] at hP hD; clear e9
                    refine lv_iinc (v := nI (b + 1)) (lv' := [(6, .int (nI (b + 1))), (0, .ref (o 0)), (1, .int (nI kd)), (2, .int (nI k1)), (3, .int (nI k2)), (4, .int (nI k3)), (5, .int (nI a))]) hx hb dX7_multiplies_101 hl (k := 6) rfl (by exact nI_add _ 1) (by decide) rfl (fun ls hl => ?_)
                    refine lv_goto (tgt := 19) hx hb dX7_multiplies_104 (by decide) ?_
                    exact ih_7 (b + 1) H locs ls (by omega) (by omega) (hP.sub [0, 1, 2] rfl) (hD.sub [0, 1, 2] (by decide) rfl) hS (lv_sub hl [1, 2, 3, 4, 5, 6, 0] rfl)
        exact loop_7 _ 0 H locs ls (Nat.lt_succ_self _) (by omega) hP hD hS (lv_sub hl [1, 2, 3, 4, 5, 6, 0] rfl)
  exact loop_1 _ 0 H locs ls (Nat.lt_succ_self _) (by omega) hP hD hS (lv_sub hl [1, 2, 3, 4, 5, 0] rfl)
set_option maxHeartbeats 4000000 in
theorem x7_adds {l : Launch} {dC : Nat → ClassId} {dI : Nat → Nat → Nat} {dA : Nat → ClassId} {s0 : State} {b0 : Addr} (Z : Z0 l dC dI dA s0 b0) (A : Nat → Prop) (sz : Nat) (hA : ∀ q : Nat, sz ≤ q → A q) (o : Nat → Nat) (th : Int32) (p0 q0 r0 : Nat) (mu : Int64) (zz : Nat → Int32) (fA fM : Nat → Int64) (k1 k2 k3 : Nat) (sg : Int32) (M N : MV) (hsg : Sg sg) (hk1 : k1 < 80) (hk2 : k2 < 80) (hk3 : k3 < 80) (hM : Hold fA k1 M) (hN : Hold fA k2 N) (sM : MSm M) (sN : MSm N) : Met l yX7_adds (ws_ yX7_adds cX7_adds 6 (some .boolean)) ({ frames := 3, cells := 0, slots := 0, locals := 180 } : Room) (gP [.ref (o 0), .int (nI k1), .int (nI k2), .int sg, .int (nI k3)] s0 A (fun H => H.size = sz ∧ va_P (dC, dI) vwCl [(o 0, .inr (2, mFs o th p0 q0 r0 mu zz)), (o 5, .inl (dA 1, 2640, .inr (.inl fA))), (o 6, .inl (dA 1, 32, .inr (.inl fM)))] H ∧ va_D A [(o 0, .inr (2, mFs o th p0 q0 r0 mu zz)), (o 5, .inl (dA 1, 2640, .inr (.inl fA))), (o 6, .inl (dA 1, 32, .inr (.inl fM)))])) (va_Qi (S := (Nat → Int64) × (Nat → Int64) × Int64) (fun r u => PutPost fA k3 (addS sg M N) r u.1) (B1 (dC, dI) A (fun u => mC dA o th p0 q0 r0 u.2.2 zz u.1 u.2.1) (fun _ _ => True)) A) 0 0 A := by
  refine Met.ofW (cc := cX7_adds) (maxL := 6) (ret := (some .boolean)) (by decide) rfl ?_
  intro p e s m args below meth c s₁ B hml hv
  obtain ⟨hav, hG, hsz, hP, hD⟩ := hv
  have hx := B.exec
  have hb := B.bytes
  have hr := B.returns
  have hts := atoms_spec (ws := (ws_ yX7_adds cX7_adds 6 (some .boolean))) B.pre
  have hts : ∀ w ∈ lw_all, w.before _ s = true := fun w h => hts w (List.mem_cons_of_mem _ h)
  have hown : s.vm.findClass RX7 = some m.cls := findClass_of_methodNamed B.named
  have hlocks := B.notSynchronized
  have hK := hG.K Z
  subst hsz
  have hS : va_S A s.heap s.heap [] := va_S.rf
  have hl := lv_entry ([.ref (o 0), .int (nI k1), .int (nI k2), .int sg, .int (nI k3)]) (n := 6) (Nat.le_of_ble_eq_true rfl)
  rw [show entryFrame m args 6 = entryFrame m ([.ref (o 0), .int (nI k1), .int (nI k2), .int sg, .int (nI k3)] : List Value).toArray 6 from by rw [hav], lg_entry_eq]
  generalize (lg_sl ([.ref (o 0), .int (nI k1), .int (nI k2), .int sg, .int (nI k3)]) ++ List.replicate (6 - (lg_sl ([.ref (o 0), .int (nI k1), .int (nI k2), .int sg, .int (nI k3)])).length) Slot.unset).toArray = ls at hl ⊢
  have hl : lv_has ls 6 [(0, .ref (o 0)), (1, .int (nI k1)), (2, .int (nI k2)), (3, .int sg), (4, .int (nI k3))] := hl
  generalize hQe : MQ below _ _ s _ _ _ = Q
  change W p l e ({ frames := 3, cells := 0, slots := 0, locals := 180 } : Room) s m args below meth c s.heap [] 0 0 Q (F0 m 0 ls [])
  refine lv_aload_n hx hb dX7_adds_0 rfl (lv_at hl 0 rfl) ?_
  have hF9 := va_free (wc := [(o 0, .inr (2, mFs o th p0 q0 r0 mu zz)), (o 5, .inl (dA 1, 2640, .inr (.inl fA))), (o 6, .inl (dA 1, 32, .inr (.inl fM)))]) hD hS (fun q h => hA q h) [0, 1, 2] rfl
  refine c_v (wr := []) (va_runV (As := []) (rest := []) ⟨hx, hb, hml, hown, hts⟩ (x7_clearsMade Z (va_A [(o 0, .inr (2, mFs o th p0 q0 r0 mu zz)), (o 5, .inl (dA 1, 2640, .inr (.inl fA))), (o 6, .inl (dA 1, 32, .inr (.inl fM)))] s.heap.size) s.heap.size (fun q h => Or.inr h) o th p0 q0 r0 mu zz fA fM) (cwV 0 hts (lw_V q2115 q2117 qs37 q107 q2118) rfl rfl rfl (by decide +kernel) ⟨Nat.le_of_ble_eq_true rfl, Nat.le_of_ble_eq_true rfl⟩) (gP_V (va_recv hK hP (ci := 2) (q0 := 0) rfl rfl) hG hS (fun q _ h => hF9 q h) ⟨rfl, (hP.sub (ws' := [(o 0, .inr (2, mFs o th p0 q0 r0 mu zz)), (o 5, .inl (dA 1, 2640, .inr (.inl fA))), (o 6, .inl (dA 1, 32, .inr (.inl fM)))]) [0, 1, 2] rfl), (hD.sub (ws' := [(o 0, .inr (2, mFs o th p0 q0 r0 mu zz)), (o 5, .inl (dA 1, 2640, .inr (.inl fA))), (o 6, .inl (dA 1, 32, .inr (.inl fM)))]) [0, 1, 2] (by decide) rfl).self⟩) rfl rfl hl.1 rfl (lv_room (Nat.le_of_ble_eq_true rfl)) dX7_adds_1 ⟨by first | decide | omega, by first | decide | omega⟩) hP hD hS hA [0, 1, 2] [] rfl rfl (by decide) (by decide) (fun u9 H locs hq hX hz hk hP hD hS => ?_)
  have hP : va_P (dC, dI) vwCl [(o 0, .inr (2, mFs o th p0 q0 r0 1 zz)), (o 5, .inl (dA 1, 2640, .inr (.inl fA))), (o 6, .inl (dA 1, 32, .inr (.inl (fun _ => 0))))] H := hP
  have hD : va_D A [(o 0, .inr (2, mFs o th p0 q0 r0 1 zz)), (o 5, .inl (dA 1, 2640, .inr (.inl fA))), (o 6, .inl (dA 1, 32, .inr (.inl (fun _ => 0))))] := hD
  refine lv_iconst (v := nI 0) hx hb dX7_adds_4 (by decide) ?_
  refine lv_istore (lv' := [(5, .int (nI 0)), (0, .ref (o 0)), (1, .int (nI k1)), (2, .int (nI k2)), (3, .int sg), (4, .int (nI k3))]) hx hb dX7_adds_5 hl (by decide) rfl (fun ls hl => ?_)
  have e9 : (fun _ => 0 : Nat → Int64) = (wrS (fun _ => 0) 0 0 (addR sg M N)) := (wr_0 _ _ _).symm
  rw [e9] at hP hD; clear e9
  have loop_1 : ∀ (n9_1 : Nat) (k : Nat) (H : Heap) (locs : List Loc) (ls : Array Slot), 32 - k < n9_1 → (k ≤ 32) → va_P (dC, dI) vwCl [(o 0, .inr (2, mFs o th p0 q0 r0 1 zz)), (o 5, .inl (dA 1, 2640, .inr (.inl fA))), (o 6, .inl (dA 1, 32, .inr (.inl (wrS (fun _ => 0) 0 k (addR sg M N)))))] H → va_D A [(o 0, .inr (2, mFs o th p0 q0 r0 1 zz)), (o 5, .inl (dA 1, 2640, .inr (.inl fA))), (o 6, .inl (dA 1, 32, .inr (.inl (wrS (fun _ => 0) 0 k (addR sg M N)))))] → va_S A s.heap H locs → lv_has ls 6 [(0, .ref (o 0)), (1, .int (nI k1)), (2, .int (nI k2)), (3, .int sg), (4, .int (nI k3)), (5, .int (nI k))] → W p l e ({ frames := 3, cells := 0, slots := 0, locals := 180 } : Room) s m args below meth c H locs 0 0 Q (F0 m 7 ls []) := by
    intro n9_1
    induction n9_1 with
    | zero => intro k H locs ls hm_1; exact absurd hm_1 (Nat.not_lt_zero _)
    | succ n9_1 ih_1 =>
      intro k H locs ls hm_1 hk9 hP hD hS hl
      refine lv_iload hx hb dX7_adds_7 (lv_at hl 5 rfl) ?_
      refine lv_bipush (v := nI 32) hx hb dX7_adds_9 (by decide) ?_
      refine lv_icmp_ge (tgt := 57) hx hb dX7_adds_11 (by decide) (fun c_11 => ?_) (fun c_11 => ?_)
      · have c_11 : 32 ≤ k := (nI_leI (a := 32) (b := k) (by omega) (by omega)).mp c_11
        obtain rfl : k = 32 := by omega
        have hP := P_L hP 2 (addR sg M N) rfl (fun j hj => by rw [wr_in (by omega) (by omega)]; rfl)
        have hD := va_D.set (e := .inl (dA 1, 32, .inr (.inl (addR sg M N)))) hD (p := 2) rfl
        have hP : va_P (dC, dI) vwCl [(o 0, .inr (2, mFs o th p0 q0 r0 1 zz)), (o 5, .inl (dA 1, 2640, .inr (.inl fA))), (o 6, .inl (dA 1, 32, .inr (.inl (addR sg M N))))] H := hP
        have hD : va_D A [(o 0, .inr (2, mFs o th p0 q0 r0 1 zz)), (o 5, .inl (dA 1, 2640, .inr (.inl fA))), (o 6, .inl (dA 1, 32, .inr (.inl (addR sg M N))))] := hD
        refine lv_aload_n hx hb dX7_adds_57 rfl (lv_at hl 0 rfl) ?_
        refine lv_aload_n hx hb dX7_adds_58 rfl (lv_at hl 0 rfl) ?_
        refine lv_iload_n hx hb dX7_adds_59 rfl (lv_at hl 1 rfl) ?_
        refine s_l (va_runV (As := [.int (nI k1)]) (rest := [.ref (o 0)]) ⟨hx, hb, hml, hown, hts⟩ (x7_under Z o th p0 q0 r0 1 zz fA k1 (by omega)) (cwV 1 hts (lw_V q2123 q2125 qs39 q107 q2126) rfl rfl rfl (by decide +kernel) ⟨Nat.le_of_ble_eq_true rfl, Nat.le_of_ble_eq_true rfl⟩) (gP_V (va_recv hK hP (ci := 2) (q0 := 0) rfl rfl) hG hS (fun q _ h => h.elim) (hP.sub (ws' := [(o 0, .inr (2, mFs o th p0 q0 r0 1 zz)), (o 5, .inl (dA 1, 2640, .inr (.inl fA)))]) [0, 1] rfl)) rfl rfl hl.1 rfl (lv_room (Nat.le_of_ble_eq_true rfl)) dX7_adds_60 ⟨by first | decide | omega, by first | decide | omega⟩) ?_
        refine e_l (y := M 0) (hold_at hM (i := 0) (by omega) (by omega)) ?_
        refine lv_aload_n hx hb dX7_adds_63 rfl (lv_at hl 0 rfl) ?_
        refine lv_iload_n hx hb dX7_adds_64 rfl (lv_at hl 2 rfl) ?_
        refine s_l (va_runV (As := [.int (nI k2)]) (rest := [.long (M 0), .ref (o 0)]) ⟨hx, hb, hml, hown, hts⟩ (x7_under Z o th p0 q0 r0 1 zz fA k2 (by omega)) (cwV 1 hts (lw_V q2123 q2125 qs39 q107 q2126) rfl rfl rfl (by decide +kernel) ⟨Nat.le_of_ble_eq_true rfl, Nat.le_of_ble_eq_true rfl⟩) (gP_V (va_recv hK hP (ci := 2) (q0 := 0) rfl rfl) hG hS (fun q _ h => h.elim) (hP.sub (ws' := [(o 0, .inr (2, mFs o th p0 q0 r0 1 zz)), (o 5, .inl (dA 1, 2640, .inr (.inl fA)))]) [0, 1] rfl)) rfl rfl hl.1 rfl (lv_room (Nat.le_of_ble_eq_true rfl)) dX7_adds_65 ⟨by first | decide | omega, by first | decide | omega⟩) ?_
        refine e_l (y := N 0) (hold_at hN (i := 0) (by omega) (by omega)) ?_
        refine lv_lmul hx hb dX7_adds_68 ?_
        refine va_put (D := (dC, dI)) (ci := 2) (v := .long ((M 0) * (N 0))) (ty := .long) (C := RX7) (T := TX7) (N := 27) hx hb hts in_X7 tyX7 tyX7_ok nmX7 hown hK hP hD hS 0 rfl rfl 10 (by decide) (hts _ q2016) (fun _ h9 => h9) rfl (by decide +kernel) rfl rfl (Nat.le_of_ble_eq_true rfl) dX7_adds_69 (fun H locs hP hD hS => ?_)
        have hP : va_P (dC, dI) vwCl [(o 0, .inr (2, mFs o th p0 q0 r0 ((M 0) * (N 0)) zz)), (o 5, .inl (dA 1, 2640, .inr (.inl fA))), (o 6, .inl (dA 1, 32, .inr (.inl (addR sg M N))))] H := hP
        have hD : va_D A [(o 0, .inr (2, mFs o th p0 q0 r0 ((M 0) * (N 0)) zz)), (o 5, .inl (dA 1, 2640, .inr (.inl fA))), (o 6, .inl (dA 1, 32, .inr (.inl (addR sg M N))))] := hD
        refine lv_aload_n hx hb dX7_adds_72 rfl (lv_at hl 0 rfl) ?_
        refine lv_iload hx hb dX7_adds_73 (lv_at hl 4 rfl) ?_
        have hF9 := va_free (wc := [(o 0, .inr (2, mFs o th p0 q0 r0 ((M 0) * (N 0)) zz)), (o 5, .inl (dA 1, 2640, .inr (.inl fA))), (o 6, .inl (dA 1, 32, .inr (.inl (addR sg M N))))]) hD hS (fun q h => hA q h) [0, 1, 2] rfl
        refine c_i (wr := []) (va_runV (As := [.int (nI k3)]) (rest := []) ⟨hx, hb, hml, hown, hts⟩ (x7_puts Z (va_A [(o 0, .inr (2, mFs o th p0 q0 r0 ((M 0) * (N 0)) zz)), (o 5, .inl (dA 1, 2640, .inr (.inl fA))), (o 6, .inl (dA 1, 32, .inr (.inl (addR sg M N))))] H.size) H.size (fun q h => Or.inr h) o th p0 q0 r0 ((M 0) * (N 0)) zz fA (addR sg M N) k3 (by omega) (und_bd sM sN).1 (fun j hj => addR_nm hsg sM sN hj)) (cwV 1 hts (lw_V q2127 q2129 qs40 q107 q2130) rfl rfl rfl (by decide +kernel) ⟨Nat.le_of_ble_eq_true rfl, Nat.le_of_ble_eq_true rfl⟩) (gP_V (va_recv hK hP (ci := 2) (q0 := 0) rfl rfl) hG hS (fun q _ h => hF9 q h) ⟨rfl, (hP.sub (ws' := [(o 0, .inr (2, mFs o th p0 q0 r0 ((M 0) * (N 0)) zz)), (o 5, .inl (dA 1, 2640, .inr (.inl fA))), (o 6, .inl (dA 1, 32, .inr (.inl (addR sg M N))))]) [0, 1, 2] rfl), (hD.sub (ws' := [(o 0, .inr (2, mFs o th p0 q0 r0 ((M 0) * (N 0)) zz)), (o 5, .inl (dA 1, 2640, .inr (.inl fA))), (o 6, .inl (dA 1, 32, .inr (.inl (addR sg M N))))]) [0, 1, 2] (by decide) rfl).self⟩) rfl rfl hl.1 rfl (lv_room (Nat.le_of_ble_eq_true rfl)) dX7_adds_75 ⟨by first | decide | omega, by first | decide | omega⟩) hP hD hS hA [0, 1, 2] [] rfl rfl (by decide) (by decide) (fun r9 u9 H locs hq hX hz hk hP hD hS => ?_)
        obtain ⟨fA_2, fM_3, mu_4⟩ := u9
        obtain ⟨r_5, rfl⟩ : ∃ z, z = r9 := ⟨_, rfl⟩
        have hq_6 := hq
        have hP : va_P (dC, dI) vwCl [(o 0, .inr (2, mFs o th p0 q0 r0 mu_4 zz)), (o 5, .inl (dA 1, 2640, .inr (.inl fA_2))), (o 6, .inl (dA 1, 32, .inr (.inl fM_3)))] H := hP
        have hD : va_D A [(o 0, .inr (2, mFs o th p0 q0 r0 mu_4 zz)), (o 5, .inl (dA 1, 2640, .inr (.inl fA_2))), (o 6, .inl (dA 1, 32, .inr (.inl fM_3)))] := hD
        subst hQe
        exact W.zret (v := r_5) hx hb hr (PutPost.z hq) (fun t ht hW => ⟨⟨_, (fA_2, fM_3, mu_4), rfl, hq, B1_at ht (hP.sub [0, 1, 2] rfl) (hD.sub [0, 1, 2] (by decide) rfl) trivial⟩, hS.F ht⟩) hS.2.2 dX7_adds_78
      · have c_11 : ¬ 32 ≤ k := fun h => c_11 ((nI_leI (a := 32) (b := k) (by omega) (by omega)).mpr h)
        refine lv_aload_n hx hb dX7_adds_14 rfl (lv_at hl 0 rfl) ?_
        refine va_get (D := (dC, dI)) (ci := 2) (v := .ref (o 6)) (C := RX7) (T := TX7) (N := 27) hx hb hts in_X7 hown hK hP 0 rfl rfl 9 (by decide) (hts _ q2015) (fun _ h9 => h9) rfl dX7_adds_15 ?_
        refine lv_iload hx hb dX7_adds_18 (lv_at hl 5 rfl) ?_
        refine lv_aload_n hx hb dX7_adds_20 rfl (lv_at hl 0 rfl) ?_
        refine lv_iload_n hx hb dX7_adds_21 rfl (lv_at hl 1 rfl) ?_
        refine lv_iload hx hb dX7_adds_22 (lv_at hl 5 rfl) ?_
        refine s_l (va_runV (As := [.int (nI k1), .int (nI k)]) (rest := [.int (nI k), .ref (o 6)]) ⟨hx, hb, hml, hown, hts⟩ (x7_of Z o th p0 q0 r0 1 zz fA k1 k (by omega)) (cwV 2 hts (lw_V q2119 q2121 qs38 q107 q2122) rfl rfl rfl (by decide +kernel) ⟨Nat.le_of_ble_eq_true rfl, Nat.le_of_ble_eq_true rfl⟩) (gP_V (va_recv hK hP (ci := 2) (q0 := 0) rfl rfl) hG hS (fun q _ h => h.elim) (hP.sub (ws' := [(o 0, .inr (2, mFs o th p0 q0 r0 1 zz)), (o 5, .inl (dA 1, 2640, .inr (.inl fA)))]) [0, 1] rfl)) rfl rfl hl.1 rfl (lv_room (Nat.le_of_ble_eq_true rfl)) dX7_adds_24 ⟨by first | decide | omega, by first | decide | omega⟩) ?_
        refine e_l (y := M (k + 1)) (hold_at hM (i := k + 1) (by omega) (by omega)) ?_
        refine lv_aload_n hx hb dX7_adds_27 rfl (lv_at hl 0 rfl) ?_
        refine lv_iload_n hx hb dX7_adds_28 rfl (lv_at hl 2 rfl) ?_
        refine s_l (va_runV (As := [.int (nI k2)]) (rest := [.long (M (k + 1)), .int (nI k), .ref (o 6)]) ⟨hx, hb, hml, hown, hts⟩ (x7_under Z o th p0 q0 r0 1 zz fA k2 (by omega)) (cwV 1 hts (lw_V q2123 q2125 qs39 q107 q2126) rfl rfl rfl (by decide +kernel) ⟨Nat.le_of_ble_eq_true rfl, Nat.le_of_ble_eq_true rfl⟩) (gP_V (va_recv hK hP (ci := 2) (q0 := 0) rfl rfl) hG hS (fun q _ h => h.elim) (hP.sub (ws' := [(o 0, .inr (2, mFs o th p0 q0 r0 1 zz)), (o 5, .inl (dA 1, 2640, .inr (.inl fA)))]) [0, 1] rfl)) rfl rfl hl.1 rfl (lv_room (Nat.le_of_ble_eq_true rfl)) dX7_adds_29 ⟨by first | decide | omega, by first | decide | omega⟩) ?_
        refine e_l (y := N 0) (hold_at hN (i := 0) (by omega) (by omega)) ?_
        refine lv_lmul hx hb dX7_adds_32 ?_
        refine lv_iload_n hx hb dX7_adds_33 rfl (lv_at hl 3 rfl) ?_
        refine lv_i2l (v := sg.toInt64) hx hb dX7_adds_34 rfl ?_
        refine lv_aload_n hx hb dX7_adds_35 rfl (lv_at hl 0 rfl) ?_
        refine lv_iload_n hx hb dX7_adds_36 rfl (lv_at hl 2 rfl) ?_
        refine lv_iload hx hb dX7_adds_37 (lv_at hl 5 rfl) ?_
        refine s_l (va_runV (As := [.int (nI k2), .int (nI k)]) (rest := [.long sg.toInt64, .long ((M (k + 1)) * (N 0)), .int (nI k), .ref (o 6)]) ⟨hx, hb, hml, hown, hts⟩ (x7_of Z o th p0 q0 r0 1 zz fA k2 k (by omega)) (cwV 2 hts (lw_V q2119 q2121 qs38 q107 q2122) rfl rfl rfl (by decide +kernel) ⟨Nat.le_of_ble_eq_true rfl, Nat.le_of_ble_eq_true rfl⟩) (gP_V (va_recv hK hP (ci := 2) (q0 := 0) rfl rfl) hG hS (fun q _ h => h.elim) (hP.sub (ws' := [(o 0, .inr (2, mFs o th p0 q0 r0 1 zz)), (o 5, .inl (dA 1, 2640, .inr (.inl fA)))]) [0, 1] rfl)) rfl rfl hl.1 rfl (lv_room (Nat.le_of_ble_eq_true rfl)) dX7_adds_39 ⟨by first | decide | omega, by first | decide | omega⟩) ?_
        refine e_l (y := N (k + 1)) (hold_at hN (i := k + 1) (by omega) (by omega)) ?_
        refine lv_lmul hx hb dX7_adds_42 ?_
        refine lv_aload_n hx hb dX7_adds_43 rfl (lv_at hl 0 rfl) ?_
        refine lv_iload_n hx hb dX7_adds_44 rfl (lv_at hl 1 rfl) ?_
        refine s_l (va_runV (As := [.int (nI k1)]) (rest := [.long (sg.toInt64 * (N (k + 1))), .long ((M (k + 1)) * (N 0)), .int (nI k), .ref (o 6)]) ⟨hx, hb, hml, hown, hts⟩ (x7_under Z o th p0 q0 r0 1 zz fA k1 (by omega)) (cwV 1 hts (lw_V q2123 q2125 qs39 q107 q2126) rfl rfl rfl (by decide +kernel) ⟨Nat.le_of_ble_eq_true rfl, Nat.le_of_ble_eq_true rfl⟩) (gP_V (va_recv hK hP (ci := 2) (q0 := 0) rfl rfl) hG hS (fun q _ h => h.elim) (hP.sub (ws' := [(o 0, .inr (2, mFs o th p0 q0 r0 1 zz)), (o 5, .inl (dA 1, 2640, .inr (.inl fA)))]) [0, 1] rfl)) rfl rfl hl.1 rfl (lv_room (Nat.le_of_ble_eq_true rfl)) dX7_adds_45 ⟨by first | decide | omega, by first | decide | omega⟩) ?_
        refine e_l (y := M 0) (hold_at hM (i := 0) (by omega) (by omega)) ?_
        refine lv_lmul hx hb dX7_adds_48 ?_
        refine lv_ladd hx hb dX7_adds_49 ?_
        refine a_last hx hb hK hP hD hS 2 1 rfl rfl (by omega) (by omega) dX7_adds_50 (fun H locs hP hD hS => ?_)
        have hP : va_P (dC, dI) vwCl [(o 0, .inr (2, mFs o th p0 q0 r0 1 zz)), (o 5, .inl (dA 1, 2640, .inr (.inl fA))), (o 6, .inl (dA 1, 32, .inr (.inl (vp_updL (wrS (fun _ => 0) 0 k (addR sg M N)) k (((M (k + 1)) * (N 0)) + ((sg.toInt64 * (N (k + 1))) * (M 0)))))))] H := hP
        have hD : va_D A [(o 0, .inr (2, mFs o th p0 q0 r0 1 zz)), (o 5, .inl (dA 1, 2640, .inr (.inl fA))), (o 6, .inl (dA 1, 32, .inr (.inl (vp_updL (wrS (fun _ => 0) 0 k (addR sg M N)) k (((M (k + 1)) * (N 0)) + ((sg.toInt64 * (N (k + 1))) * (M 0)))))))] := hD
        have e9 : (vp_updL (wrS (fun _ => 0) 0 k (addR sg M N)) k (((M (k + 1)) * (N 0)) + ((sg.toInt64 * (N (k + 1))) * (M 0))) : Nat → Int64) = (wrS (fun _ => 0) 0 (k + 1) (addR sg M N)) := wr_s (by omega) rfl
        rw [e9] at hP hD; clear e9
        refine lv_iinc (v := nI (k + 1)) (lv' := [(5, .int (nI (k + 1))), (0, .ref (o 0)), (1, .int (nI k1)), (2, .int (nI k2)), (3, .int sg), (4, .int (nI k3))]) hx hb dX7_adds_51 hl (k := 5) rfl (by exact nI_add _ 1) (by decide) rfl (fun ls hl => ?_)
        refine lv_goto (tgt := 7) hx hb dX7_adds_54 (by decide) ?_
        exact ih_1 (k + 1) H locs ls (by omega) (by omega) (hP.sub [0, 1, 2] rfl) (hD.sub [0, 1, 2] (by decide) rfl) hS (lv_sub hl [1, 2, 3, 4, 5, 0] rfl)
  exact loop_1 _ 0 H locs ls (Nat.lt_succ_self _) (by omega) hP hD hS (lv_sub hl [1, 2, 3, 4, 5, 0] rfl)
set_option maxHeartbeats 4000000 in
theorem x7_scales {l : Launch} {dC : Nat → ClassId} {dI : Nat → Nat → Nat} {dA : Nat → ClassId} {s0 : State} {b0 : Addr} (Z : Z0 l dC dI dA s0 b0) (A : Nat → Prop) (sz : Nat) (hA : ∀ q : Nat, sz ≤ q → A q) (o : Nat → Nat) (th : Int32) (p0 q0 r0 : Nat) (mu : Int64) (zz : Nat → Int32) (fA fM : Nat → Int64) (k1 k3 : Nat) (top bot : Int64) (M : MV) (htop : sm8 top) (hbot : sm8 bot) (hb0 : bot ≠ 0) (hk1 : k1 < 80) (hk3 : k3 < 80) (hM : Hold fA k1 M) (sM : MSm M) : Met l yX7_scales (ws_ yX7_scales cX7_scales 10 (some .boolean)) ({ frames := 3, cells := 0, slots := 0, locals := 180 } : Room) (gP [.ref (o 0), .int (nI k1), .long top, .long bot, .int (nI k3)] s0 A (fun H => H.size = sz ∧ va_P (dC, dI) vwCl [(o 0, .inr (2, mFs o th p0 q0 r0 mu zz)), (o 5, .inl (dA 1, 2640, .inr (.inl fA))), (o 6, .inl (dA 1, 32, .inr (.inl fM)))] H ∧ va_D A [(o 0, .inr (2, mFs o th p0 q0 r0 mu zz)), (o 5, .inl (dA 1, 2640, .inr (.inl fA))), (o 6, .inl (dA 1, 32, .inr (.inl fM)))])) (va_Qi (S := (Nat → Int64) × (Nat → Int64) × Int64) (fun r u => PutPost fA k3 (scaS top bot M) r u.1) (B1 (dC, dI) A (fun u => mC dA o th p0 q0 r0 u.2.2 zz u.1 u.2.1) (fun _ _ => True)) A) 0 0 A := by
  refine Met.ofW (cc := cX7_scales) (maxL := 10) (ret := (some .boolean)) (by decide) rfl ?_
  intro p e s m args below meth c s₁ B hml hv
  obtain ⟨hav, hG, hsz, hP, hD⟩ := hv
  have hx := B.exec
  have hb := B.bytes
  have hr := B.returns
  have hts := atoms_spec (ws := (ws_ yX7_scales cX7_scales 10 (some .boolean))) B.pre
  have hts : ∀ w ∈ lw_all, w.before _ s = true := fun w h => hts w (List.mem_cons_of_mem _ h)
  have hown : s.vm.findClass RX7 = some m.cls := findClass_of_methodNamed B.named
  have hlocks := B.notSynchronized
  have hK := hG.K Z
  subst hsz
  have hS : va_S A s.heap s.heap [] := va_S.rf
  have hl := lv_entry ([.ref (o 0), .int (nI k1), .long top, .long bot, .int (nI k3)]) (n := 10) (Nat.le_of_ble_eq_true rfl)
  rw [show entryFrame m args 10 = entryFrame m ([.ref (o 0), .int (nI k1), .long top, .long bot, .int (nI k3)] : List Value).toArray 10 from by rw [hav], lg_entry_eq]
  generalize (lg_sl ([.ref (o 0), .int (nI k1), .long top, .long bot, .int (nI k3)]) ++ List.replicate (10 - (lg_sl ([.ref (o 0), .int (nI k1), .long top, .long bot, .int (nI k3)])).length) Slot.unset).toArray = ls at hl ⊢
  have hl : lv_has ls 10 [(0, .ref (o 0)), (1, .int (nI k1)), (2, .long top), (4, .long bot), (6, .int (nI k3))] := hl
  generalize hQe : MQ below _ _ s _ _ _ = Q
  change W p l e ({ frames := 3, cells := 0, slots := 0, locals := 180 } : Room) s m args below meth c s.heap [] 0 0 Q (F0 m 0 ls [])
  refine lv_aload_n hx hb dX7_scales_0 rfl (lv_at hl 0 rfl) ?_
  have hF9 := va_free (wc := [(o 0, .inr (2, mFs o th p0 q0 r0 mu zz)), (o 5, .inl (dA 1, 2640, .inr (.inl fA))), (o 6, .inl (dA 1, 32, .inr (.inl fM)))]) hD hS (fun q h => hA q h) [0, 1, 2] rfl
  refine c_v (wr := []) (va_runV (As := []) (rest := []) ⟨hx, hb, hml, hown, hts⟩ (x7_clearsMade Z (va_A [(o 0, .inr (2, mFs o th p0 q0 r0 mu zz)), (o 5, .inl (dA 1, 2640, .inr (.inl fA))), (o 6, .inl (dA 1, 32, .inr (.inl fM)))] s.heap.size) s.heap.size (fun q h => Or.inr h) o th p0 q0 r0 mu zz fA fM) (cwV 0 hts (lw_V q2115 q2117 qs37 q107 q2118) rfl rfl rfl (by decide +kernel) ⟨Nat.le_of_ble_eq_true rfl, Nat.le_of_ble_eq_true rfl⟩) (gP_V (va_recv hK hP (ci := 2) (q0 := 0) rfl rfl) hG hS (fun q _ h => hF9 q h) ⟨rfl, (hP.sub (ws' := [(o 0, .inr (2, mFs o th p0 q0 r0 mu zz)), (o 5, .inl (dA 1, 2640, .inr (.inl fA))), (o 6, .inl (dA 1, 32, .inr (.inl fM)))]) [0, 1, 2] rfl), (hD.sub (ws' := [(o 0, .inr (2, mFs o th p0 q0 r0 mu zz)), (o 5, .inl (dA 1, 2640, .inr (.inl fA))), (o 6, .inl (dA 1, 32, .inr (.inl fM)))]) [0, 1, 2] (by decide) rfl).self⟩) rfl rfl hl.1 rfl (lv_room (Nat.le_of_ble_eq_true rfl)) dX7_scales_1 ⟨by first | decide | omega, by first | decide | omega⟩) hP hD hS hA [0, 1, 2] [] rfl rfl (by decide) (by decide) (fun u9 H locs hq hX hz hk hP hD hS => ?_)
  have hP : va_P (dC, dI) vwCl [(o 0, .inr (2, mFs o th p0 q0 r0 1 zz)), (o 5, .inl (dA 1, 2640, .inr (.inl fA))), (o 6, .inl (dA 1, 32, .inr (.inl (fun _ => 0))))] H := hP
  have hD : va_D A [(o 0, .inr (2, mFs o th p0 q0 r0 1 zz)), (o 5, .inl (dA 1, 2640, .inr (.inl fA))), (o 6, .inl (dA 1, 32, .inr (.inl (fun _ => 0))))] := hD
  have J_1 : ∀  (H : Heap) (locs : List Loc) (ls : Array Slot), va_P (dC, dI) vwCl [(o 0, .inr (2, mFs o th p0 q0 r0 1 zz)), (o 5, .inl (dA 1, 2640, .inr (.inl fA))), (o 6, .inl (dA 1, 32, .inr (.inl (fun _ => 0))))] H → va_D A [(o 0, .inr (2, mFs o th p0 q0 r0 1 zz)), (o 5, .inl (dA 1, 2640, .inr (.inl fA))), (o 6, .inl (dA 1, 32, .inr (.inl (fun _ => 0))))] → va_S A s.heap H locs → lv_has ls 10 [(0, .ref (o 0)), (1, .int (nI k1)), (2, .long top), (4, .long bot), (6, .int (nI k3))] → W p l e ({ frames := 3, cells := 0, slots := 0, locals := 180 } : Room) s m args below meth c H locs 0 0 Q (F0 m 18 ls [.long (sgL bot)]) := by
    intro  H locs ls  hP hD hS hl
    refine lv_lstore (lv' := [(7, .long (sgL bot)), (0, .ref (o 0)), (1, .int (nI k1)), (2, .long top), (4, .long bot), (6, .int (nI k3))]) hx hb dX7_scales_18 hl (by decide) rfl (fun ls hl => ?_)
    refine lv_iconst (v := nI 0) hx hb dX7_scales_20 (by decide) ?_
    refine lv_istore (lv' := [(9, .int (nI 0)), (7, .long (sgL bot)), (0, .ref (o 0)), (1, .int (nI k1)), (2, .long top), (4, .long bot), (6, .int (nI k3))]) hx hb dX7_scales_21 hl (by decide) rfl (fun ls hl => ?_)
    have e9 : (fun _ => 0 : Nat → Int64) = (wrS (fun _ => 0) 0 0 (scaR top bot M)) := (wr_0 _ _ _).symm
    rw [e9] at hP hD; clear e9
    have loop_2 : ∀ (n9_2 : Nat) (k : Nat) (H : Heap) (locs : List Loc) (ls : Array Slot), 32 - k < n9_2 → (k ≤ 32) → va_P (dC, dI) vwCl [(o 0, .inr (2, mFs o th p0 q0 r0 1 zz)), (o 5, .inl (dA 1, 2640, .inr (.inl fA))), (o 6, .inl (dA 1, 32, .inr (.inl (wrS (fun _ => 0) 0 k (scaR top bot M)))))] H → va_D A [(o 0, .inr (2, mFs o th p0 q0 r0 1 zz)), (o 5, .inl (dA 1, 2640, .inr (.inl fA))), (o 6, .inl (dA 1, 32, .inr (.inl (wrS (fun _ => 0) 0 k (scaR top bot M)))))] → va_S A s.heap H locs → lv_has ls 10 [(0, .ref (o 0)), (1, .int (nI k1)), (2, .long top), (4, .long bot), (6, .int (nI k3)), (7, .long (sgL bot)), (9, .int (nI k))] → W p l e ({ frames := 3, cells := 0, slots := 0, locals := 180 } : Room) s m args below meth c H locs 0 0 Q (F0 m 23 ls []) := by
      intro n9_2
      induction n9_2 with
      | zero => intro k H locs ls hm_2; exact absurd hm_2 (Nat.not_lt_zero _)
      | succ n9_2 ih_2 =>
        intro k H locs ls hm_2 hk9 hP hD hS hl
        refine lv_iload hx hb dX7_scales_23 (lv_at hl 6 rfl) ?_
        refine lv_bipush (v := nI 32) hx hb dX7_scales_25 (by decide) ?_
        refine lv_icmp_ge (tgt := 55) hx hb dX7_scales_27 (by decide) (fun c_27 => ?_) (fun c_27 => ?_)
        · have c_27 : 32 ≤ k := (nI_leI (a := 32) (b := k) (by omega) (by omega)).mp c_27
          obtain rfl : k = 32 := by omega
          have hP := P_L hP 2 (scaR top bot M) rfl (fun j hj => by rw [wr_in (by omega) (by omega)]; rfl)
          have hD := va_D.set (e := .inl (dA 1, 32, .inr (.inl (scaR top bot M)))) hD (p := 2) rfl
          have hP : va_P (dC, dI) vwCl [(o 0, .inr (2, mFs o th p0 q0 r0 1 zz)), (o 5, .inl (dA 1, 2640, .inr (.inl fA))), (o 6, .inl (dA 1, 32, .inr (.inl (scaR top bot M))))] H := hP
          have hD : va_D A [(o 0, .inr (2, mFs o th p0 q0 r0 1 zz)), (o 5, .inl (dA 1, 2640, .inr (.inl fA))), (o 6, .inl (dA 1, 32, .inr (.inl (scaR top bot M))))] := hD
          refine lv_aload_n hx hb dX7_scales_55 rfl (lv_at hl 0 rfl) ?_
          refine lv_aload_n hx hb dX7_scales_56 rfl (lv_at hl 0 rfl) ?_
          refine lv_iload_n hx hb dX7_scales_57 rfl (lv_at hl 1 rfl) ?_
          refine s_l (va_runV (As := [.int (nI k1)]) (rest := [.ref (o 0)]) ⟨hx, hb, hml, hown, hts⟩ (x7_under Z o th p0 q0 r0 1 zz fA k1 (by omega)) (cwV 1 hts (lw_V q2123 q2125 qs39 q107 q2126) rfl rfl rfl (by decide +kernel) ⟨Nat.le_of_ble_eq_true rfl, Nat.le_of_ble_eq_true rfl⟩) (gP_V (va_recv hK hP (ci := 2) (q0 := 0) rfl rfl) hG hS (fun q _ h => h.elim) (hP.sub (ws' := [(o 0, .inr (2, mFs o th p0 q0 r0 1 zz)), (o 5, .inl (dA 1, 2640, .inr (.inl fA)))]) [0, 1] rfl)) rfl rfl hl.1 rfl (lv_room (Nat.le_of_ble_eq_true rfl)) dX7_scales_58 ⟨by first | decide | omega, by first | decide | omega⟩) ?_
          refine e_l (y := M 0) (hold_at hM (i := 0) (by omega) (by omega)) ?_
          refine lv_lload hx hb dX7_scales_61 (lv_at hl 3 rfl) ?_
          refine lv_lmul hx hb dX7_scales_63 ?_
          refine lv_lload hx hb dX7_scales_64 (lv_at hl 5 rfl) ?_
          refine lv_lmul hx hb dX7_scales_66 ?_
          refine va_put (D := (dC, dI)) (ci := 2) (v := .long (((M 0) * bot) * (sgL bot))) (ty := .long) (C := RX7) (T := TX7) (N := 27) hx hb hts in_X7 tyX7 tyX7_ok nmX7 hown hK hP hD hS 0 rfl rfl 10 (by decide) (hts _ q2016) (fun _ h9 => h9) rfl (by decide +kernel) rfl rfl (Nat.le_of_ble_eq_true rfl) dX7_scales_67 (fun H locs hP hD hS => ?_)
          have hP : va_P (dC, dI) vwCl [(o 0, .inr (2, mFs o th p0 q0 r0 (((M 0) * bot) * (sgL bot)) zz)), (o 5, .inl (dA 1, 2640, .inr (.inl fA))), (o 6, .inl (dA 1, 32, .inr (.inl (scaR top bot M))))] H := hP
          have hD : va_D A [(o 0, .inr (2, mFs o th p0 q0 r0 (((M 0) * bot) * (sgL bot)) zz)), (o 5, .inl (dA 1, 2640, .inr (.inl fA))), (o 6, .inl (dA 1, 32, .inr (.inl (scaR top bot M))))] := hD
          refine lv_aload_n hx hb dX7_scales_70 rfl (lv_at hl 0 rfl) ?_
          refine lv_iload hx hb dX7_scales_71 (lv_at hl 4 rfl) ?_
          have hF9 := va_free (wc := [(o 0, .inr (2, mFs o th p0 q0 r0 (((M 0) * bot) * (sgL bot)) zz)), (o 5, .inl (dA 1, 2640, .inr (.inl fA))), (o 6, .inl (dA 1, 32, .inr (.inl (scaR top bot M))))]) hD hS (fun q h => hA q h) [0, 1, 2] rfl
          refine c_i (wr := []) (va_runV (As := [.int (nI k3)]) (rest := []) ⟨hx, hb, hml, hown, hts⟩ (x7_puts Z (va_A [(o 0, .inr (2, mFs o th p0 q0 r0 (((M 0) * bot) * (sgL bot)) zz)), (o 5, .inl (dA 1, 2640, .inr (.inl fA))), (o 6, .inl (dA 1, 32, .inr (.inl (scaR top bot M))))] H.size) H.size (fun q h => Or.inr h) o th p0 q0 r0 (((M 0) * bot) * (sgL bot)) zz fA (scaR top bot M) k3 (by omega) (scaU_bd hbot hb0 sM).1 (fun j hj => scaR_nm htop sM hj)) (cwV 1 hts (lw_V q2127 q2129 qs40 q107 q2130) rfl rfl rfl (by decide +kernel) ⟨Nat.le_of_ble_eq_true rfl, Nat.le_of_ble_eq_true rfl⟩) (gP_V (va_recv hK hP (ci := 2) (q0 := 0) rfl rfl) hG hS (fun q _ h => hF9 q h) ⟨rfl, (hP.sub (ws' := [(o 0, .inr (2, mFs o th p0 q0 r0 (((M 0) * bot) * (sgL bot)) zz)), (o 5, .inl (dA 1, 2640, .inr (.inl fA))), (o 6, .inl (dA 1, 32, .inr (.inl (scaR top bot M))))]) [0, 1, 2] rfl), (hD.sub (ws' := [(o 0, .inr (2, mFs o th p0 q0 r0 (((M 0) * bot) * (sgL bot)) zz)), (o 5, .inl (dA 1, 2640, .inr (.inl fA))), (o 6, .inl (dA 1, 32, .inr (.inl (scaR top bot M))))]) [0, 1, 2] (by decide) rfl).self⟩) rfl rfl hl.1 rfl (lv_room (Nat.le_of_ble_eq_true rfl)) dX7_scales_73 ⟨by first | decide | omega, by first | decide | omega⟩) hP hD hS hA [0, 1, 2] [] rfl rfl (by decide) (by decide) (fun r9 u9 H locs hq hX hz hk hP hD hS => ?_)
          obtain ⟨fA_3, fM_4, mu_5⟩ := u9
          obtain ⟨r_6, rfl⟩ : ∃ z, z = r9 := ⟨_, rfl⟩
          have hq_7 := hq
          have hP : va_P (dC, dI) vwCl [(o 0, .inr (2, mFs o th p0 q0 r0 mu_5 zz)), (o 5, .inl (dA 1, 2640, .inr (.inl fA_3))), (o 6, .inl (dA 1, 32, .inr (.inl fM_4)))] H := hP
          have hD : va_D A [(o 0, .inr (2, mFs o th p0 q0 r0 mu_5 zz)), (o 5, .inl (dA 1, 2640, .inr (.inl fA_3))), (o 6, .inl (dA 1, 32, .inr (.inl fM_4)))] := hD
          subst hQe
          exact W.zret (v := r_6) hx hb hr (PutPost.z hq) (fun t ht hW => ⟨⟨_, (fA_3, fM_4, mu_5), rfl, hq, B1_at ht (hP.sub [0, 1, 2] rfl) (hD.sub [0, 1, 2] (by decide) rfl) trivial⟩, hS.F ht⟩) hS.2.2 dX7_scales_76
        · have c_27 : ¬ 32 ≤ k := fun h => c_27 ((nI_leI (a := 32) (b := k) (by omega) (by omega)).mpr h)
          refine lv_aload_n hx hb dX7_scales_30 rfl (lv_at hl 0 rfl) ?_
          refine va_get (D := (dC, dI)) (ci := 2) (v := .ref (o 6)) (C := RX7) (T := TX7) (N := 27) hx hb hts in_X7 hown hK hP 0 rfl rfl 9 (by decide) (hts _ q2015) (fun _ h9 => h9) rfl dX7_scales_31 ?_
          refine lv_iload hx hb dX7_scales_34 (lv_at hl 6 rfl) ?_
          refine lv_aload_n hx hb dX7_scales_36 rfl (lv_at hl 0 rfl) ?_
          refine lv_iload_n hx hb dX7_scales_37 rfl (lv_at hl 1 rfl) ?_
          refine lv_iload hx hb dX7_scales_38 (lv_at hl 6 rfl) ?_
          refine s_l (va_runV (As := [.int (nI k1), .int (nI k)]) (rest := [.int (nI k), .ref (o 6)]) ⟨hx, hb, hml, hown, hts⟩ (x7_of Z o th p0 q0 r0 1 zz fA k1 k (by omega)) (cwV 2 hts (lw_V q2119 q2121 qs38 q107 q2122) rfl rfl rfl (by decide +kernel) ⟨Nat.le_of_ble_eq_true rfl, Nat.le_of_ble_eq_true rfl⟩) (gP_V (va_recv hK hP (ci := 2) (q0 := 0) rfl rfl) hG hS (fun q _ h => h.elim) (hP.sub (ws' := [(o 0, .inr (2, mFs o th p0 q0 r0 1 zz)), (o 5, .inl (dA 1, 2640, .inr (.inl fA)))]) [0, 1] rfl)) rfl rfl hl.1 rfl (lv_room (Nat.le_of_ble_eq_true rfl)) dX7_scales_40 ⟨by first | decide | omega, by first | decide | omega⟩) ?_
          refine e_l (y := M (k + 1)) (hold_at hM (i := k + 1) (by omega) (by omega)) ?_
          refine lv_lload_n hx hb dX7_scales_43 rfl (lv_at hl 2 rfl) ?_
          refine lv_lmul hx hb dX7_scales_44 ?_
          refine lv_lload hx hb dX7_scales_45 (lv_at hl 5 rfl) ?_
          refine lv_lmul hx hb dX7_scales_47 ?_
          refine a_last hx hb hK hP hD hS 2 1 rfl rfl (by omega) (by omega) dX7_scales_48 (fun H locs hP hD hS => ?_)
          have hP : va_P (dC, dI) vwCl [(o 0, .inr (2, mFs o th p0 q0 r0 1 zz)), (o 5, .inl (dA 1, 2640, .inr (.inl fA))), (o 6, .inl (dA 1, 32, .inr (.inl (vp_updL (wrS (fun _ => 0) 0 k (scaR top bot M)) k (((M (k + 1)) * top) * (sgL bot))))))] H := hP
          have hD : va_D A [(o 0, .inr (2, mFs o th p0 q0 r0 1 zz)), (o 5, .inl (dA 1, 2640, .inr (.inl fA))), (o 6, .inl (dA 1, 32, .inr (.inl (vp_updL (wrS (fun _ => 0) 0 k (scaR top bot M)) k (((M (k + 1)) * top) * (sgL bot))))))] := hD
          have e9 : (vp_updL (wrS (fun _ => 0) 0 k (scaR top bot M)) k (((M (k + 1)) * top) * (sgL bot)) : Nat → Int64) = (wrS (fun _ => 0) 0 (k + 1) (scaR top bot M)) := wr_s (by omega) rfl
          rw [e9] at hP hD; clear e9
          refine lv_iinc (v := nI (k + 1)) (lv' := [(9, .int (nI (k + 1))), (0, .ref (o 0)), (1, .int (nI k1)), (2, .long top), (4, .long bot), (6, .int (nI k3)), (7, .long (sgL bot))]) hx hb dX7_scales_49 hl (k := 6) rfl (by exact nI_add _ 1) (by decide) rfl (fun ls hl => ?_)
          refine lv_goto (tgt := 23) hx hb dX7_scales_52 (by decide) ?_
          exact ih_2 (k + 1) H locs ls (by omega) (by omega) (hP.sub [0, 1, 2] rfl) (hD.sub [0, 1, 2] (by decide) rfl) hS (lv_sub hl [1, 2, 3, 4, 5, 6, 0] rfl)
    exact loop_2 _ 0 H locs ls (Nat.lt_succ_self _) (by omega) hP hD hS (lv_sub hl [2, 3, 4, 5, 6, 1, 0] rfl)
  refine lv_lload hx hb dX7_scales_4 (lv_at hl 3 rfl) ?_
  refine lv_lconst (v := 0) hx hb dX7_scales_6 rfl ?_
  refine W.lcmp hx hb dX7_scales_7 ?_
  refine lv_if_ge (tgt := 17) hx hb dX7_scales_8 (by decide) (fun c_8 => ?_) (fun c_8 => ?_)
  · have c_8 : 0 ≤ bot := (lg_cmp_ge _ _).mp c_8
    refine lv_lconst (v := 1) hx hb dX7_scales_17 rfl ?_
    refine e_l (y := sgL bot) ((by unfold sgL; rw [if_neg (Int64.not_lt.mpr c_8)])) ?_
    exact J_1  H locs ls  (hP.sub [0, 1, 2] rfl) (hD.sub [0, 1, 2] (by decide) rfl) hS (lv_sub hl [0, 1, 2, 3, 4] rfl)
  · have c_8 : ¬ 0 ≤ bot := fun h => c_8 ((lg_cmp_ge _ _).mpr h)
    refine lv_ldc2 hx hb hown (hts _ q2180) dX7_scales_11 ?_
    refine lv_goto (tgt := 18) hx hb dX7_scales_14 (by decide) ?_
    refine e_l (y := sgL bot) ((by unfold sgL; rw [if_pos (Int64.not_le.mp c_8)])) ?_
    exact J_1  H locs ls  (hP.sub [0, 1, 2] rfl) (hD.sub [0, 1, 2] (by decide) rfl) hS (lv_sub hl [0, 1, 2, 3, 4] rfl)
set_option maxHeartbeats 4000000 in
theorem x7_turned {l : Launch} {dC : Nat → ClassId} {dI : Nat → Nat → Nat} {dA : Nat → ClassId} {s0 : State} {b0 : Addr} (Z : Z0 l dC dI dA s0 b0) (op g : Nat) (hop : op ≤ 8) (hgg : g ≤ 6) : Met l yX7_turned (ws_ yX7_turned cX7_turned 2 (some .int)) ({ frames := 1, cells := 0, slots := 0, locals := 60 } : Room) (gP [.int (nI op), .int (nI g)] s0 (fun _ => False) (fun H => True)) (vp_Si (fun r => r = turS op g)) 0 0 (fun _ => False) := by
  refine Met.ofW (cc := cX7_turned) (maxL := 2) (ret := (some .int)) (by decide) rfl ?_
  intro p e s m args below meth c s₁ B hml hv
  obtain ⟨hav, hG, hno⟩ := hv
  have hx := B.exec
  have hb := B.bytes
  have hr := B.returns
  have hts := atoms_spec (ws := (ws_ yX7_turned cX7_turned 2 (some .int))) B.pre
  have hts : ∀ w ∈ lw_all, w.before _ s = true := fun w h => hts w (List.mem_cons_of_mem _ h)
  have hown : s.vm.findClass RX7 = some m.cls := findClass_of_methodNamed B.named
  have hlocks := B.notSynchronized
  have hK := hG.K Z
  have hS : va_S (fun _ => False) s.heap s.heap [] := va_S.rf
  have hP : va_P (dC, dI) vwCl [] s.heap := fun k q h => by simp at h
  have hD : va_D (fun _ => False) [] := ⟨fun i j p q h => by simp at h, fun k q h => by simp at h⟩
  have hl := lv_entry ([.int (nI op), .int (nI g)]) (n := 2) (Nat.le_of_ble_eq_true rfl)
  rw [show entryFrame m args 2 = entryFrame m ([.int (nI op), .int (nI g)] : List Value).toArray 2 from by rw [hav], lg_entry_eq]
  generalize (lg_sl ([.int (nI op), .int (nI g)]) ++ List.replicate (2 - (lg_sl ([.int (nI op), .int (nI g)])).length) Slot.unset).toArray = ls at hl ⊢
  have hl : lv_has ls 2 [(0, .int (nI op)), (1, .int (nI g))] := hl
  generalize hQe : MQ below _ _ s _ _ _ = Q
  change W p l e ({ frames := 1, cells := 0, slots := 0, locals := 60 } : Room) s m args below meth c s.heap [] 0 0 Q (F0 m 0 ls [])
  refine lv_iload_n hx hb dX7_turned_0 rfl (lv_at hl 0 rfl) ?_
  rcases (show op = 0 ∨ op = 1 ∨ op = 2 ∨ op = 3 ∨ op = 4 ∨ op = 5 ∨ op = 6 ∨ op = 7 ∨ op = 8 by omega) with rfl | rfl | rfl | rfl | rfl | rfl | rfl | rfl | rfl
  · refine lv_tableIn (off := 47) (tgt := 48) hx hb dX7_turned_1 (by decide) (by decide) rfl (by decide) ?_
    refine lv_iload_n hx hb dX7_turned_48 rfl (lv_at hl 1 rfl) ?_
    refine lv_iconst (v := nI 2) hx hb dX7_turned_49 (by decide) ?_
    refine lv_icmp_eq (tgt := 58) hx hb dX7_turned_50 (by decide) (fun c_50 => ?_) (fun c_50 => ?_)
    · have c_50 : g = 2 := (nI_eq (a := g) (b := 2) (by omega) (by omega)).mp c_50
      refine lv_iconst (v := (-1)) hx hb dX7_turned_58 (by decide) ?_
      refine lv_goto (tgt := 63) hx hb dX7_turned_59 (by decide) ?_
      subst hQe
      exact W.iret (v := (-1)) hx hb hr (fun t ht hW => ⟨_, rfl, (by unfold turS; simp [c_50]), ht⟩) hS.2.2 dX7_turned_63
    · have c_50 : ¬ g = 2 := fun h => c_50 ((nI_eq (a := g) (b := 2) (by omega) (by omega)).mpr h)
      refine lv_iload_n hx hb dX7_turned_53 rfl (lv_at hl 1 rfl) ?_
      refine lv_iconst (v := nI 3) hx hb dX7_turned_54 (by decide) ?_
      refine lv_icmp_ne (tgt := 62) hx hb dX7_turned_55 (by decide) (fun c_55 => ?_) (fun c_55 => ?_)
      · have c_55 : ¬ g = 3 := fun h => c_55 ((nI_eq (a := g) (b := 3) (by omega) (by omega)).mpr h)
        refine lv_iconst (v := nI 1) hx hb dX7_turned_62 (by decide) ?_
        subst hQe
        exact W.iret (v := nI 1) hx hb hr (fun t ht hW => ⟨_, rfl, (by unfold turS; simp [c_50, c_55]), ht⟩) hS.2.2 dX7_turned_63
      · have c_55 : g = 3 := (nI_eq (a := g) (b := 3) (by omega) (by omega)).mp c_55
        refine lv_iconst (v := (-1)) hx hb dX7_turned_58 (by decide) ?_
        refine lv_goto (tgt := 63) hx hb dX7_turned_59 (by decide) ?_
        subst hQe
        exact W.iret (v := (-1)) hx hb hr (fun t ht hW => ⟨_, rfl, (by unfold turS; simp [c_55]), ht⟩) hS.2.2 dX7_turned_63
  · refine lv_tableIn (off := 63) (tgt := 64) hx hb dX7_turned_1 (by decide) (by decide) rfl (by decide) ?_
    refine lv_iload_n hx hb dX7_turned_64 rfl (lv_at hl 1 rfl) ?_
    refine lv_iconst (v := nI 2) hx hb dX7_turned_65 (by decide) ?_
    refine lv_irem hx hb dX7_turned_66 (nI_ne0 (n := 2) (by omega) (by omega)) ?_
    refine e_i (y := nI (g % 2)) (pk_rem (by omega) (by omega) (by omega)) ?_
    refine lv_iconst (v := nI 1) hx hb dX7_turned_67 (by decide) ?_
    refine lv_icmp_ne (tgt := 75) hx hb dX7_turned_68 (by decide) (fun c_68 => ?_) (fun c_68 => ?_)
    · have c_68 : ¬ (g % 2) = 1 := fun h => c_68 ((nI_eq (a := (g % 2)) (b := 1) (by omega) (by omega)).mpr h)
      refine lv_iconst (v := nI 1) hx hb dX7_turned_75 (by decide) ?_
      subst hQe
      exact W.iret (v := nI 1) hx hb hr (fun t ht hW => ⟨_, rfl, (by unfold turS; simp [c_68]), ht⟩) hS.2.2 dX7_turned_76
    · have c_68 : (g % 2) = 1 := (nI_eq (a := (g % 2)) (b := 1) (by omega) (by omega)).mp c_68
      refine lv_iconst (v := (-1)) hx hb dX7_turned_71 (by decide) ?_
      refine lv_goto (tgt := 76) hx hb dX7_turned_72 (by decide) ?_
      subst hQe
      exact W.iret (v := (-1)) hx hb hr (fun t ht hW => ⟨_, rfl, (by unfold turS; simp [c_68]), ht⟩) hS.2.2 dX7_turned_76
  · refine lv_tableIn (off := 76) (tgt := 77) hx hb dX7_turned_1 (by decide) (by decide) rfl (by decide) ?_
    refine lv_iload_n hx hb dX7_turned_77 rfl (lv_at hl 1 rfl) ?_
    refine lv_iconst (v := nI 1) hx hb dX7_turned_78 (by decide) ?_
    refine lv_icmp_eq (tgt := 92) hx hb dX7_turned_79 (by decide) (fun c_79 => ?_) (fun c_79 => ?_)
    · have c_79 : g = 1 := (nI_eq (a := g) (b := 1) (by omega) (by omega)).mp c_79
      refine lv_iconst (v := (-1)) hx hb dX7_turned_92 (by decide) ?_
      refine lv_goto (tgt := 97) hx hb dX7_turned_93 (by decide) ?_
      subst hQe
      exact W.iret (v := (-1)) hx hb hr (fun t ht hW => ⟨_, rfl, (by unfold turS; simp [c_79]), ht⟩) hS.2.2 dX7_turned_97
    · have c_79 : ¬ g = 1 := fun h => c_79 ((nI_eq (a := g) (b := 1) (by omega) (by omega)).mpr h)
      refine lv_iload_n hx hb dX7_turned_82 rfl (lv_at hl 1 rfl) ?_
      refine lv_iconst (v := nI 2) hx hb dX7_turned_83 (by decide) ?_
      refine lv_icmp_eq (tgt := 92) hx hb dX7_turned_84 (by decide) (fun c_84 => ?_) (fun c_84 => ?_)
      · have c_84 : g = 2 := (nI_eq (a := g) (b := 2) (by omega) (by omega)).mp c_84
        refine lv_iconst (v := (-1)) hx hb dX7_turned_92 (by decide) ?_
        refine lv_goto (tgt := 97) hx hb dX7_turned_93 (by decide) ?_
        subst hQe
        exact W.iret (v := (-1)) hx hb hr (fun t ht hW => ⟨_, rfl, (by unfold turS; simp [c_84]), ht⟩) hS.2.2 dX7_turned_97
      · have c_84 : ¬ g = 2 := fun h => c_84 ((nI_eq (a := g) (b := 2) (by omega) (by omega)).mpr h)
        refine lv_iload_n hx hb dX7_turned_87 rfl (lv_at hl 1 rfl) ?_
        refine lv_iconst (v := nI 5) hx hb dX7_turned_88 (by decide) ?_
        refine lv_icmp_ne (tgt := 96) hx hb dX7_turned_89 (by decide) (fun c_89 => ?_) (fun c_89 => ?_)
        · have c_89 : ¬ g = 5 := fun h => c_89 ((nI_eq (a := g) (b := 5) (by omega) (by omega)).mpr h)
          refine lv_iconst (v := nI 1) hx hb dX7_turned_96 (by decide) ?_
          subst hQe
          exact W.iret (v := nI 1) hx hb hr (fun t ht hW => ⟨_, rfl, (by unfold turS; simp [c_79, c_84, c_89]), ht⟩) hS.2.2 dX7_turned_97
        · have c_89 : g = 5 := (nI_eq (a := g) (b := 5) (by omega) (by omega)).mp c_89
          refine lv_iconst (v := (-1)) hx hb dX7_turned_92 (by decide) ?_
          refine lv_goto (tgt := 97) hx hb dX7_turned_93 (by decide) ?_
          subst hQe
          exact W.iret (v := (-1)) hx hb hr (fun t ht hW => ⟨_, rfl, (by unfold turS; simp [c_89]), ht⟩) hS.2.2 dX7_turned_97
  · refine lv_tableIn (off := 122) (tgt := 123) hx hb dX7_turned_1 (by decide) (by decide) rfl (by decide) ?_
    refine lv_iconst (v := (-1)) hx hb dX7_turned_123 (by decide) ?_
    subst hQe
    exact W.iret (v := (-1)) hx hb hr (fun t ht hW => ⟨_, rfl, rfl, ht⟩) hS.2.2 dX7_turned_124
  · refine lv_tableIn (off := 122) (tgt := 123) hx hb dX7_turned_1 (by decide) (by decide) rfl (by decide) ?_
    refine lv_iconst (v := (-1)) hx hb dX7_turned_123 (by decide) ?_
    subst hQe
    exact W.iret (v := (-1)) hx hb hr (fun t ht hW => ⟨_, rfl, rfl, ht⟩) hS.2.2 dX7_turned_124
  · refine lv_tableIn (off := 122) (tgt := 123) hx hb dX7_turned_1 (by decide) (by decide) rfl (by decide) ?_
    refine lv_iconst (v := (-1)) hx hb dX7_turned_123 (by decide) ?_
    subst hQe
    exact W.iret (v := (-1)) hx hb hr (fun t ht hW => ⟨_, rfl, rfl, ht⟩) hS.2.2 dX7_turned_124
  · refine lv_tableIn (off := 97) (tgt := 98) hx hb dX7_turned_1 (by decide) (by decide) rfl (by decide) ?_
    refine lv_iload_n hx hb dX7_turned_98 rfl (lv_at hl 1 rfl) ?_
    refine lv_iconst (v := nI 2) hx hb dX7_turned_99 (by decide) ?_
    refine lv_irem hx hb dX7_turned_100 (nI_ne0 (n := 2) (by omega) (by omega)) ?_
    refine e_i (y := nI (g % 2)) (pk_rem (by omega) (by omega) (by omega)) ?_
    refine lv_if_ne (tgt := 108) hx hb dX7_turned_101 (by decide) (fun c_101 => ?_) (fun c_101 => ?_)
    · have c_101 : ¬ (g % 2) = 0 := fun h => c_101 ((nI_eq (a := (g % 2)) (b := 0) (by omega) (by omega)).mpr h)
      refine lv_iconst (v := nI 0) hx hb dX7_turned_108 (by decide) ?_
      subst hQe
      exact W.iret (v := nI 0) hx hb hr (fun t ht hW => ⟨_, rfl, (by unfold turS; simp [c_101]), ht⟩) hS.2.2 dX7_turned_109
    · have c_101 : (g % 2) = 0 := (nI_eq (a := (g % 2)) (b := 0) (by omega) (by omega)).mp c_101
      refine lv_iconst (v := nI 1) hx hb dX7_turned_104 (by decide) ?_
      refine lv_goto (tgt := 109) hx hb dX7_turned_105 (by decide) ?_
      subst hQe
      exact W.iret (v := nI 1) hx hb hr (fun t ht hW => ⟨_, rfl, (by unfold turS; simp [c_101]), ht⟩) hS.2.2 dX7_turned_109
  · refine lv_tableIn (off := 109) (tgt := 110) hx hb dX7_turned_1 (by decide) (by decide) rfl (by decide) ?_
    refine lv_iload_n hx hb dX7_turned_110 rfl (lv_at hl 1 rfl) ?_
    refine lv_iconst (v := nI 2) hx hb dX7_turned_111 (by decide) ?_
    refine lv_irem hx hb dX7_turned_112 (nI_ne0 (n := 2) (by omega) (by omega)) ?_
    refine e_i (y := nI (g % 2)) (pk_rem (by omega) (by omega) (by omega)) ?_
    refine lv_iconst (v := nI 1) hx hb dX7_turned_113 (by decide) ?_
    refine lv_icmp_ne (tgt := 121) hx hb dX7_turned_114 (by decide) (fun c_114 => ?_) (fun c_114 => ?_)
    · have c_114 : ¬ (g % 2) = 1 := fun h => c_114 ((nI_eq (a := (g % 2)) (b := 1) (by omega) (by omega)).mpr h)
      refine lv_iconst (v := nI 0) hx hb dX7_turned_121 (by decide) ?_
      subst hQe
      exact W.iret (v := nI 0) hx hb hr (fun t ht hW => ⟨_, rfl, (by unfold turS; simp [c_114]), ht⟩) hS.2.2 dX7_turned_122
    · have c_114 : (g % 2) = 1 := (nI_eq (a := (g % 2)) (b := 1) (by omega) (by omega)).mp c_114
      refine lv_iconst (v := nI 1) hx hb dX7_turned_117 (by decide) ?_
      refine lv_goto (tgt := 122) hx hb dX7_turned_118 (by decide) ?_
      subst hQe
      exact W.iret (v := nI 1) hx hb hr (fun t ht hW => ⟨_, rfl, (by unfold turS; simp [c_114]), ht⟩) hS.2.2 dX7_turned_122
  · refine lv_tableOut (tgt := 123) hx hb dX7_turned_1 (by decide) (by decide) ?_
    refine lv_iconst (v := (-1)) hx hb dX7_turned_123 (by decide) ?_
    subst hQe
    exact W.iret (v := (-1)) hx hb hr (fun t ht hW => ⟨_, rfl, rfl, ht⟩) hS.2.2 dX7_turned_124
set_option maxHeartbeats 4000000 in
theorem x7_turns {l : Launch} {dC : Nat → ClassId} {dI : Nat → Nat → Nat} {dA : Nat → ClassId} {s0 : State} {b0 : Addr} (Z : Z0 l dC dI dA s0 b0) (A : Nat → Prop) (sz : Nat) (hA : ∀ q : Nat, sz ≤ q → A q) (o : Nat → Nat) (th : Int32) (p0 q0 r0 : Nat) (mu : Int64) (zz : Nat → Int32) (fA fM : Nat → Int64) (op k1 k2 : Nat) (M : MV) (hn : p0 + q0 + r0 ≤ 5) (hop : op ≤ 8) (hk1 : k1 < 80) (hk2 : k2 < 80) (hM : Hold fA k1 M) (sM : MSm M) : Met l yX7_turns (ws_ yX7_turns cX7_turns 6 none) ({ frames := 4, cells := 0, slots := 0, locals := 240 } : Room) (gP [.ref (o 0), .int (nI op), .int (nI k1), .int (nI k2)] s0 A (fun H => H.size = sz ∧ va_P (dC, dI) vwCl [(o 0, .inr (2, mFs o th p0 q0 r0 mu zz)), (o 5, .inl (dA 1, 2640, .inr (.inl fA))), (o 6, .inl (dA 1, 32, .inr (.inl fM)))] H ∧ va_D A [(o 0, .inr (2, mFs o th p0 q0 r0 mu zz)), (o 5, .inl (dA 1, 2640, .inr (.inl fA))), (o 6, .inl (dA 1, 32, .inr (.inl fM)))])) (va_Qv (S := (Nat → Int64) × (Nat → Int64) × Int64) (fun u => Hold u.1 k2 (trnS op p0 q0 r0 M) ∧ Same fA u.1 k2) (B1 (dC, dI) A (fun u => mC dA o th p0 q0 r0 u.2.2 zz u.1 u.2.1) (fun _ _ => True)) A) 0 0 A := by
  refine Met.ofW (cc := cX7_turns) (maxL := 6) (ret := none) (by decide) rfl ?_
  intro p e s m args below meth c s₁ B hml hv
  obtain ⟨hav, hG, hsz, hP, hD⟩ := hv
  have hx := B.exec
  have hb := B.bytes
  have hr := B.returns
  have hts := atoms_spec (ws := (ws_ yX7_turns cX7_turns 6 none)) B.pre
  have hts : ∀ w ∈ lw_all, w.before _ s = true := fun w h => hts w (List.mem_cons_of_mem _ h)
  have hown : s.vm.findClass RX7 = some m.cls := findClass_of_methodNamed B.named
  have hlocks := B.notSynchronized
  have hK := hG.K Z
  subst hsz
  have hS : va_S A s.heap s.heap [] := va_S.rf
  have hl := lv_entry ([.ref (o 0), .int (nI op), .int (nI k1), .int (nI k2)]) (n := 6) (Nat.le_of_ble_eq_true rfl)
  rw [show entryFrame m args 6 = entryFrame m ([.ref (o 0), .int (nI op), .int (nI k1), .int (nI k2)] : List Value).toArray 6 from by rw [hav], lg_entry_eq]
  generalize (lg_sl ([.ref (o 0), .int (nI op), .int (nI k1), .int (nI k2)]) ++ List.replicate (6 - (lg_sl ([.ref (o 0), .int (nI op), .int (nI k1), .int (nI k2)])).length) Slot.unset).toArray = ls at hl ⊢
  have hl : lv_has ls 6 [(0, .ref (o 0)), (1, .int (nI op)), (2, .int (nI k1)), (3, .int (nI k2))] := hl
  generalize hQe : MQ below _ _ s _ _ _ = Q
  change W p l e ({ frames := 4, cells := 0, slots := 0, locals := 240 } : Room) s m args below meth c s.heap [] 0 0 Q (F0 m 0 ls [])
  have h5 := pow5 hn
  refine lv_aload_n hx hb dX7_turns_0 rfl (lv_at hl 0 rfl) ?_
  have hF9 := va_free (wc := [(o 0, .inr (2, mFs o th p0 q0 r0 mu zz)), (o 5, .inl (dA 1, 2640, .inr (.inl fA))), (o 6, .inl (dA 1, 32, .inr (.inl fM)))]) hD hS (fun q h => hA q h) [0, 1, 2] rfl
  refine c_v (wr := []) (va_runV (As := []) (rest := []) ⟨hx, hb, hml, hown, hts⟩ (x7_clearsMade Z (va_A [(o 0, .inr (2, mFs o th p0 q0 r0 mu zz)), (o 5, .inl (dA 1, 2640, .inr (.inl fA))), (o 6, .inl (dA 1, 32, .inr (.inl fM)))] s.heap.size) s.heap.size (fun q h => Or.inr h) o th p0 q0 r0 mu zz fA fM) (cwV 0 hts (lw_V q2115 q2117 qs37 q107 q2118) rfl rfl rfl (by decide +kernel) ⟨Nat.le_of_ble_eq_true rfl, Nat.le_of_ble_eq_true rfl⟩) (gP_V (va_recv hK hP (ci := 2) (q0 := 0) rfl rfl) hG hS (fun q _ h => hF9 q h) ⟨rfl, (hP.sub (ws' := [(o 0, .inr (2, mFs o th p0 q0 r0 mu zz)), (o 5, .inl (dA 1, 2640, .inr (.inl fA))), (o 6, .inl (dA 1, 32, .inr (.inl fM)))]) [0, 1, 2] rfl), (hD.sub (ws' := [(o 0, .inr (2, mFs o th p0 q0 r0 mu zz)), (o 5, .inl (dA 1, 2640, .inr (.inl fA))), (o 6, .inl (dA 1, 32, .inr (.inl fM)))]) [0, 1, 2] (by decide) rfl).self⟩) rfl rfl hl.1 rfl (lv_room (Nat.le_of_ble_eq_true rfl)) dX7_turns_1 ⟨by first | decide | omega, by first | decide | omega⟩) hP hD hS hA [0, 1, 2] [] rfl rfl (by decide) (by decide) (fun u9 H locs hq hX hz hk hP hD hS => ?_)
  have hP : va_P (dC, dI) vwCl [(o 0, .inr (2, mFs o th p0 q0 r0 1 zz)), (o 5, .inl (dA 1, 2640, .inr (.inl fA))), (o 6, .inl (dA 1, 32, .inr (.inl (fun _ => 0))))] H := hP
  have hD : va_D A [(o 0, .inr (2, mFs o th p0 q0 r0 1 zz)), (o 5, .inl (dA 1, 2640, .inr (.inl fA))), (o 6, .inl (dA 1, 32, .inr (.inl (fun _ => 0))))] := hD
  refine lv_iconst (v := nI 0) hx hb dX7_turns_4 (by decide) ?_
  refine lv_istore (lv' := [(4, .int (nI 0)), (0, .ref (o 0)), (1, .int (nI op)), (2, .int (nI k1)), (3, .int (nI k2))]) hx hb dX7_turns_5 hl (by decide) rfl (fun ls hl => ?_)
  have e9 : (fun _ => 0 : Nat → Int64) = (trnP op p0 q0 r0 M 0) := (trnP_0 _ _ _ _ _).symm
  rw [e9] at hP hD; clear e9
  have loop_1 : ∀ (n9_1 : Nat) (a : Nat) (H : Heap) (locs : List Loc) (ls : Array Slot), 33 - a < n9_1 → (a ≤ 2 ^ (p0 + q0 + r0)) → va_P (dC, dI) vwCl [(o 0, .inr (2, mFs o th p0 q0 r0 1 zz)), (o 5, .inl (dA 1, 2640, .inr (.inl fA))), (o 6, .inl (dA 1, 32, .inr (.inl (trnP op p0 q0 r0 M a))))] H → va_D A [(o 0, .inr (2, mFs o th p0 q0 r0 1 zz)), (o 5, .inl (dA 1, 2640, .inr (.inl fA))), (o 6, .inl (dA 1, 32, .inr (.inl (trnP op p0 q0 r0 M a))))] → va_S A s.heap H locs → lv_has ls 6 [(0, .ref (o 0)), (1, .int (nI op)), (2, .int (nI k1)), (3, .int (nI k2)), (4, .int (nI a))] → W p l e ({ frames := 4, cells := 0, slots := 0, locals := 240 } : Room) s m args below meth c H locs 0 0 Q (F0 m 7 ls []) := by
    intro n9_1
    induction n9_1 with
    | zero => intro a H locs ls hm_1; exact absurd hm_1 (Nat.not_lt_zero _)
    | succ n9_1 ih_1 =>
      intro a H locs ls hm_1 ha8 hP hD hS hl
      refine lv_iload hx hb dX7_turns_7 (lv_at hl 4 rfl) ?_
      refine lv_aload_n hx hb dX7_turns_9 rfl (lv_at hl 0 rfl) ?_
      refine s_i (va_runV (As := []) (rest := [.int (nI a)]) ⟨hx, hb, hml, hown, hts⟩ (x7_full Z o th p0 q0 r0 1 zz (by omega)) (cwV 0 hts (lw_V q2147 q2149 qs43 q107 q2150) rfl rfl rfl (by decide +kernel) ⟨Nat.le_of_ble_eq_true rfl, Nat.le_of_ble_eq_true rfl⟩) (gP_V (va_recv hK hP (ci := 2) (q0 := 0) rfl rfl) hG hS (fun q _ h => h.elim) (hP.sub (ws' := [(o 0, .inr (2, mFs o th p0 q0 r0 1 zz))]) [0] rfl)) rfl rfl hl.1 rfl (lv_room (Nat.le_of_ble_eq_true rfl)) dX7_turns_10 ⟨by first | decide | omega, by first | decide | omega⟩) ?_
      refine lv_icmp_gt (tgt := 165) hx hb dX7_turns_13 (by decide) (fun c_13 => ?_) (fun c_13 => ?_)
      · have c_13 : (2 ^ (p0 + q0 + r0) - 1) < a := (nI_ltI (a := (2 ^ (p0 + q0 + r0) - 1)) (b := a) (by omega) (by omega)).mp c_13
        obtain rfl : a = 2 ^ (p0 + q0 + r0) := by omega
        have e9 : (trnP op p0 q0 r0 M (2 ^ (p0 + q0 + r0)) : Nat → Int64) = (trnR op p0 q0 r0 M) := trnP_W hn M
        rw [e9] at hP hD; clear e9
        refine lv_aload_n hx hb dX7_turns_165 rfl (lv_at hl 0 rfl) ?_
        refine lv_aload_n hx hb dX7_turns_166 rfl (lv_at hl 0 rfl) ?_
        refine lv_iload_n hx hb dX7_turns_167 rfl (lv_at hl 2 rfl) ?_
        refine s_l (va_runV (As := [.int (nI k1)]) (rest := [.ref (o 0)]) ⟨hx, hb, hml, hown, hts⟩ (x7_under Z o th p0 q0 r0 1 zz fA k1 (by omega)) (cwV 1 hts (lw_V q2123 q2125 qs39 q107 q2126) rfl rfl rfl (by decide +kernel) ⟨Nat.le_of_ble_eq_true rfl, Nat.le_of_ble_eq_true rfl⟩) (gP_V (va_recv hK hP (ci := 2) (q0 := 0) rfl rfl) hG hS (fun q _ h => h.elim) (hP.sub (ws' := [(o 0, .inr (2, mFs o th p0 q0 r0 1 zz)), (o 5, .inl (dA 1, 2640, .inr (.inl fA)))]) [0, 1] rfl)) rfl rfl hl.1 rfl (lv_room (Nat.le_of_ble_eq_true rfl)) dX7_turns_168 ⟨by first | decide | omega, by first | decide | omega⟩) ?_
        refine e_l (y := M 0) (hold_at hM (i := 0) (by omega) (by omega)) ?_
        refine va_put (D := (dC, dI)) (ci := 2) (v := .long (M 0)) (ty := .long) (C := RX7) (T := TX7) (N := 27) hx hb hts in_X7 tyX7 tyX7_ok nmX7 hown hK hP hD hS 0 rfl rfl 10 (by decide) (hts _ q2016) (fun _ h9 => h9) rfl (by decide +kernel) rfl rfl (Nat.le_of_ble_eq_true rfl) dX7_turns_171 (fun H locs hP hD hS => ?_)
        have hP : va_P (dC, dI) vwCl [(o 0, .inr (2, mFs o th p0 q0 r0 (M 0) zz)), (o 5, .inl (dA 1, 2640, .inr (.inl fA))), (o 6, .inl (dA 1, 32, .inr (.inl (trnR op p0 q0 r0 M))))] H := hP
        have hD : va_D A [(o 0, .inr (2, mFs o th p0 q0 r0 (M 0) zz)), (o 5, .inl (dA 1, 2640, .inr (.inl fA))), (o 6, .inl (dA 1, 32, .inr (.inl (trnR op p0 q0 r0 M))))] := hD
        refine lv_aload_n hx hb dX7_turns_174 rfl (lv_at hl 0 rfl) ?_
        refine lv_iload_n hx hb dX7_turns_175 rfl (lv_at hl 3 rfl) ?_
        have hF9 := va_free (wc := [(o 0, .inr (2, mFs o th p0 q0 r0 (M 0) zz)), (o 5, .inl (dA 1, 2640, .inr (.inl fA))), (o 6, .inl (dA 1, 32, .inr (.inl (trnR op p0 q0 r0 M))))]) hD hS (fun q h => hA q h) [0, 1, 2] rfl
        refine c_i (wr := []) (va_runV (As := [.int (nI k2)]) (rest := []) ⟨hx, hb, hml, hown, hts⟩ (x7_puts Z (va_A [(o 0, .inr (2, mFs o th p0 q0 r0 (M 0) zz)), (o 5, .inl (dA 1, 2640, .inr (.inl fA))), (o 6, .inl (dA 1, 32, .inr (.inl (trnR op p0 q0 r0 M))))] H.size) H.size (fun q h => Or.inr h) o th p0 q0 r0 (M 0) zz fA (trnR op p0 q0 r0 M) k2 (by omega) sM.1 (fun j _ => ne_min_of (trnR_bd hn sM j) (by decide))) (cwV 1 hts (lw_V q2127 q2129 qs40 q107 q2130) rfl rfl rfl (by decide +kernel) ⟨Nat.le_of_ble_eq_true rfl, Nat.le_of_ble_eq_true rfl⟩) (gP_V (va_recv hK hP (ci := 2) (q0 := 0) rfl rfl) hG hS (fun q _ h => hF9 q h) ⟨rfl, (hP.sub (ws' := [(o 0, .inr (2, mFs o th p0 q0 r0 (M 0) zz)), (o 5, .inl (dA 1, 2640, .inr (.inl fA))), (o 6, .inl (dA 1, 32, .inr (.inl (trnR op p0 q0 r0 M))))]) [0, 1, 2] rfl), (hD.sub (ws' := [(o 0, .inr (2, mFs o th p0 q0 r0 (M 0) zz)), (o 5, .inl (dA 1, 2640, .inr (.inl fA))), (o 6, .inl (dA 1, 32, .inr (.inl (trnR op p0 q0 r0 M))))]) [0, 1, 2] (by decide) rfl).self⟩) rfl rfl hl.1 rfl (lv_room (Nat.le_of_ble_eq_true rfl)) dX7_turns_176 ⟨by first | decide | omega, by first | decide | omega⟩) hP hD hS hA [0, 1, 2] [] rfl rfl (by decide) (by decide) (fun r9 u9 H locs hq hX hz hk hP hD hS => ?_)
        obtain ⟨fA_2, fM_3, mu_4⟩ := u9
        obtain ⟨r_5, rfl⟩ : ∃ z, z = r9 := ⟨_, rfl⟩
        have hq_6 := hq
        have hP : va_P (dC, dI) vwCl [(o 0, .inr (2, mFs o th p0 q0 r0 mu_4 zz)), (o 5, .inl (dA 1, 2640, .inr (.inl fA_2))), (o 6, .inl (dA 1, 32, .inr (.inl fM_3)))] H := hP
        have hD : va_D A [(o 0, .inr (2, mFs o th p0 q0 r0 mu_4 zz)), (o 5, .inl (dA 1, 2640, .inr (.inl fA_2))), (o 6, .inl (dA 1, 32, .inr (.inl fM_3)))] := hD
        have hft := fitS_t (fit_small (f := trnR op p0 q0 r0 M) sM.1 sM.2.1 (fun j _ => trnR_bd hn sM j))
        rw [hft] at hq
        refine lv_istore (lv' := [(4, .int r_5), (0, .ref (o 0)), (1, .int (nI op)), (2, .int (nI k1)), (3, .int (nI k2))]) hx hb dX7_turns_179 hl (by decide) rfl (fun ls hl => ?_)
        subst hQe
        exact W.vret hx hb hr (fun t ht hW => ⟨⟨(fA_2, fM_3, mu_4), rfl, ⟨hq.2.1, hq.2.2⟩, B1_at ht (hP.sub [0, 1, 2] rfl) (hD.sub [0, 1, 2] (by decide) rfl) trivial⟩, hS.F ht⟩) hS.2.2 dX7_turns_181
      · have c_13 : ¬ (2 ^ (p0 + q0 + r0) - 1) < a := fun h => c_13 ((nI_ltI (a := (2 ^ (p0 + q0 + r0) - 1)) (b := a) (by omega) (by omega)).mpr h)
        have ha9 : a < 2 ^ (p0 + q0 + r0) := by omega
        have ha7 : a < 32 := by omega
        have hf9 : 2 ^ (p0 + q0 + r0) - 1 < 32 := by omega
        have hr9 : (2 ^ (p0 + q0 + r0) - 1) ^^^ a < 32 := xor32 hf9 ha7
        refine lv_aload_n hx hb dX7_turns_16 rfl (lv_at hl 0 rfl) ?_
        refine s_i (va_runV (As := []) (rest := []) ⟨hx, hb, hml, hown, hts⟩ (x7_full Z o th p0 q0 r0 1 zz (by omega)) (cwV 0 hts (lw_V q2147 q2149 qs43 q107 q2150) rfl rfl rfl (by decide +kernel) ⟨Nat.le_of_ble_eq_true rfl, Nat.le_of_ble_eq_true rfl⟩) (gP_V (va_recv hK hP (ci := 2) (q0 := 0) rfl rfl) hG hS (fun q _ h => h.elim) (hP.sub (ws' := [(o 0, .inr (2, mFs o th p0 q0 r0 1 zz))]) [0] rfl)) rfl rfl hl.1 rfl (lv_room (Nat.le_of_ble_eq_true rfl)) dX7_turns_17 ⟨by first | decide | omega, by first | decide | omega⟩) ?_
        refine lv_iload hx hb dX7_turns_20 (lv_at hl 4 rfl) ?_
        refine lv_ixor hx hb dX7_turns_22 ?_
        refine e_i (y := nI ((2 ^ (p0 + q0 + r0) - 1) ^^^ a)) (n_xor _ _) ?_
        refine lv_istore (lv' := [(5, .int (nI ((2 ^ (p0 + q0 + r0) - 1) ^^^ a))), (0, .ref (o 0)), (1, .int (nI op)), (2, .int (nI k1)), (3, .int (nI k2)), (4, .int (nI a))]) hx hb dX7_turns_23 hl (by decide) rfl (fun ls hl => ?_)
        refine lv_iload_n hx hb dX7_turns_25 rfl (lv_at hl 2 rfl) ?_
        refine lv_iconst (v := nI 3) hx hb dX7_turns_26 (by decide) ?_
        refine lv_icmp_ne (tgt := 56) hx hb dX7_turns_27 (by decide) (fun c_27 => ?_) (fun c_27 => ?_)
        · have c_27 : ¬ op = 3 := fun h => c_27 ((nI_eq (a := op) (b := 3) (by omega) (by omega)).mpr h)
          refine lv_iload_n hx hb dX7_turns_56 rfl (lv_at hl 2 rfl) ?_
          refine lv_iconst (v := nI 4) hx hb dX7_turns_57 (by decide) ?_
          refine lv_icmp_ne (tgt := 87) hx hb dX7_turns_58 (by decide) (fun c_58 => ?_) (fun c_58 => ?_)
          · have c_58 : ¬ op = 4 := fun h => c_58 ((nI_eq (a := op) (b := 4) (by omega) (by omega)).mpr h)
            refine lv_iload_n hx hb dX7_turns_87 rfl (lv_at hl 2 rfl) ?_
            refine lv_iconst (v := nI 5) hx hb dX7_turns_88 (by decide) ?_
            refine lv_icmp_ne (tgt := 134) hx hb dX7_turns_89 (by decide) (fun c_89 => ?_) (fun c_89 => ?_)
            · have c_89 : ¬ op = 5 := fun h => c_89 ((nI_eq (a := op) (b := 5) (by omega) (by omega)).mpr h)
              refine lv_aload_n hx hb dX7_turns_134 rfl (lv_at hl 1 rfl) ?_
              refine va_get (D := (dC, dI)) (ci := 2) (v := .ref (o 6)) (C := RX7) (T := TX7) (N := 27) hx hb hts in_X7 hown hK hP 0 rfl rfl 9 (by decide) (hts _ q2015) (fun _ h9 => h9) rfl dX7_turns_135 ?_
              refine lv_iload hx hb dX7_turns_138 (lv_at hl 5 rfl) ?_
              refine lv_iload_n hx hb dX7_turns_140 rfl (lv_at hl 2 rfl) ?_
              refine lv_iload hx hb dX7_turns_141 (lv_at hl 5 rfl) ?_
              refine s_i (va_runS (As := [.int (nI a)]) (rest := [.int (nI op), .int (nI a), .ref (o 6)]) ⟨hx, hb, hml, hown, hts⟩ (x7_size Z a (by omega)) (va_cwS 1 hts (lw_S q2158 q2159 q107 q2160) rfl rfl rfl (by decide +kernel) ⟨Nat.le_of_ble_eq_true rfl, Nat.le_of_ble_eq_true rfl⟩) (gP_S hG hS (fun q _ h => h.elim) trivial) rfl rfl hl.1 rfl (lv_room (Nat.le_of_ble_eq_true rfl)) dX7_turns_143 ⟨by first | decide | omega, by first | decide | omega⟩) ?_
              refine s_i (va_runS (As := [.int (nI op), .int (nI (popc a))]) (rest := [.int (nI a), .ref (o 6)]) ⟨hx, hb, hml, hown, hts⟩ (x7_turned Z op (popc a) (by omega) (popc_le a (by omega))) (va_cwS 2 hts (lw_S q2165 q2166 q107 q2167) rfl rfl rfl (by decide +kernel) ⟨Nat.le_of_ble_eq_true rfl, Nat.le_of_ble_eq_true rfl⟩) (gP_S hG hS (fun q _ h => h.elim) trivial) rfl rfl hl.1 rfl (lv_room (Nat.le_of_ble_eq_true rfl)) dX7_turns_146 ⟨by first | decide | omega, by first | decide | omega⟩) ?_
              refine lv_i2l (v := (turS op (popc a)).toInt64) hx hb dX7_turns_149 rfl ?_
              refine lv_aload_n hx hb dX7_turns_150 rfl (lv_at hl 1 rfl) ?_
              refine lv_iload_n hx hb dX7_turns_151 rfl (lv_at hl 3 rfl) ?_
              refine lv_iload hx hb dX7_turns_152 (lv_at hl 5 rfl) ?_
              refine s_l (va_runV (As := [.int (nI k1), .int (nI a)]) (rest := [.long ((turS op (popc a)).toInt64), .int (nI a), .ref (o 6)]) ⟨hx, hb, hml, hown, hts⟩ (x7_of Z o th p0 q0 r0 1 zz fA k1 a (by omega)) (cwV 2 hts (lw_V q2119 q2121 qs38 q107 q2122) rfl rfl rfl (by decide +kernel) ⟨Nat.le_of_ble_eq_true rfl, Nat.le_of_ble_eq_true rfl⟩) (gP_V (va_recv hK hP (ci := 2) (q0 := 0) rfl rfl) hG hS (fun q _ h => h.elim) (hP.sub (ws' := [(o 0, .inr (2, mFs o th p0 q0 r0 1 zz)), (o 5, .inl (dA 1, 2640, .inr (.inl fA)))]) [0, 1] rfl)) rfl rfl hl.1 rfl (lv_room (Nat.le_of_ble_eq_true rfl)) dX7_turns_154 ⟨by first | decide | omega, by first | decide | omega⟩) ?_
              refine e_l (y := M (a + 1)) (hold_at hM (i := a + 1) (by omega) (by omega)) ?_
              refine lv_lmul hx hb dX7_turns_157 ?_
              refine a_last hx hb hK hP hD hS 2 1 rfl rfl (by omega) (by omega) dX7_turns_158 (fun H locs hP hD hS => ?_)
              have hP : va_P (dC, dI) vwCl [(o 0, .inr (2, mFs o th p0 q0 r0 1 zz)), (o 5, .inl (dA 1, 2640, .inr (.inl fA))), (o 6, .inl (dA 1, 32, .inr (.inl (vp_updL (trnP op p0 q0 r0 M a) a (((turS op (popc a)).toInt64) * (M (a + 1)))))))] H := hP
              have hD : va_D A [(o 0, .inr (2, mFs o th p0 q0 r0 1 zz)), (o 5, .inl (dA 1, 2640, .inr (.inl fA))), (o 6, .inl (dA 1, 32, .inr (.inl (vp_updL (trnP op p0 q0 r0 M a) a (((turS op (popc a)).toInt64) * (M (a + 1)))))))] := hD
              have e9 : (vp_updL (trnP op p0 q0 r0 M a) a (((turS op (popc a)).toInt64) * (M (a + 1))) : Nat → Int64) = (trnP op p0 q0 r0 M (a + 1)) := trnP_s hn ha9 (show trnI op p0 q0 r0 a = a from trnI_x c_27 c_58 c_89) (by rw [show trnG op p0 q0 r0 a = turS op (popc a) from trnG_x c_27 c_58 c_89])
              rw [e9] at hP hD; clear e9
              refine lv_iinc (v := nI (a + 1)) (lv' := [(4, .int (nI (a + 1))), (5, .int (nI ((2 ^ (p0 + q0 + r0) - 1) ^^^ a))), (0, .ref (o 0)), (1, .int (nI op)), (2, .int (nI k1)), (3, .int (nI k2))]) hx hb dX7_turns_159 hl (k := 5) rfl (by exact nI_add _ 1) (by decide) rfl (fun ls hl => ?_)
              refine lv_goto (tgt := 7) hx hb dX7_turns_162 (by decide) ?_
              exact ih_1 (a + 1) H locs ls (by omega) (by omega) (hP.sub [0, 1, 2] rfl) (hD.sub [0, 1, 2] (by decide) rfl) hS (lv_sub hl [2, 3, 4, 5, 0] rfl)
            · have c_89 : op = 5 := (nI_eq (a := op) (b := 5) (by omega) (by omega)).mp c_89
              subst c_89
              refine lv_aload_n hx hb dX7_turns_92 rfl (lv_at hl 1 rfl) ?_
              refine va_get (D := (dC, dI)) (ci := 2) (v := .ref (o 6)) (C := RX7) (T := TX7) (N := 27) hx hb hts in_X7 hown hK hP 0 rfl rfl 9 (by decide) (hts _ q2015) (fun _ h9 => h9) rfl dX7_turns_93 ?_
              refine lv_iload hx hb dX7_turns_96 (lv_at hl 0 rfl) ?_
              refine lv_aload_n hx hb dX7_turns_98 rfl (lv_at hl 1 rfl) ?_
              refine lv_aload_n hx hb dX7_turns_99 rfl (lv_at hl 1 rfl) ?_
              refine s_i (va_runV (As := []) (rest := [.ref (o 0), .int (nI ((2 ^ (p0 + q0 + r0) - 1) ^^^ a)), .ref (o 6)]) ⟨hx, hb, hml, hown, hts⟩ (x7_full Z o th p0 q0 r0 1 zz (by omega)) (cwV 0 hts (lw_V q2147 q2149 qs43 q107 q2150) rfl rfl rfl (by decide +kernel) ⟨Nat.le_of_ble_eq_true rfl, Nat.le_of_ble_eq_true rfl⟩) (gP_V (va_recv hK hP (ci := 2) (q0 := 0) rfl rfl) hG hS (fun q _ h => h.elim) (hP.sub (ws' := [(o 0, .inr (2, mFs o th p0 q0 r0 1 zz))]) [0] rfl)) rfl rfl hl.1 rfl (lv_room (Nat.le_of_ble_eq_true rfl)) dX7_turns_100 ⟨by first | decide | omega, by first | decide | omega⟩) ?_
              refine lv_aload_n hx hb dX7_turns_103 rfl (lv_at hl 1 rfl) ?_
              refine s_i (va_runV (As := []) (rest := [.int (nI (2 ^ (p0 + q0 + r0) - 1)), .ref (o 0), .int (nI ((2 ^ (p0 + q0 + r0) - 1) ^^^ a)), .ref (o 6)]) ⟨hx, hb, hml, hown, hts⟩ (x7_full Z o th p0 q0 r0 1 zz (by omega)) (cwV 0 hts (lw_V q2147 q2149 qs43 q107 q2150) rfl rfl rfl (by decide +kernel) ⟨Nat.le_of_ble_eq_true rfl, Nat.le_of_ble_eq_true rfl⟩) (gP_V (va_recv hK hP (ci := 2) (q0 := 0) rfl rfl) hG hS (fun q _ h => h.elim) (hP.sub (ws' := [(o 0, .inr (2, mFs o th p0 q0 r0 1 zz))]) [0] rfl)) rfl rfl hl.1 rfl (lv_room (Nat.le_of_ble_eq_true rfl)) dX7_turns_104 ⟨by first | decide | omega, by first | decide | omega⟩) ?_
              refine s_i (va_runV (As := [.int (nI (2 ^ (p0 + q0 + r0) - 1)), .int (nI (2 ^ (p0 + q0 + r0) - 1))]) (rest := [.int (nI ((2 ^ (p0 + q0 + r0) - 1) ^^^ a)), .ref (o 6)]) ⟨hx, hb, hml, hown, hts⟩ (x7_signOf Z o th p0 q0 r0 1 zz (2 ^ (p0 + q0 + r0) - 1) (2 ^ (p0 + q0 + r0) - 1) (by omega) (by omega) (by omega)) (cwV 2 hts (lw_V q2161 q2163 qs45 q107 q2164) rfl rfl rfl (by decide +kernel) ⟨Nat.le_of_ble_eq_true rfl, Nat.le_of_ble_eq_true rfl⟩) (gP_V (va_recv hK hP (ci := 2) (q0 := 0) rfl rfl) hG hS (fun q _ h => h.elim) (hP.sub (ws' := [(o 0, .inr (2, mFs o th p0 q0 r0 1 zz))]) [0] rfl)) rfl rfl hl.1 rfl (lv_room (Nat.le_of_ble_eq_true rfl)) dX7_turns_107 ⟨by first | decide | omega, by first | decide | omega⟩) ?_
              refine lv_aload_n hx hb dX7_turns_110 rfl (lv_at hl 1 rfl) ?_
              refine lv_iload hx hb dX7_turns_111 (lv_at hl 5 rfl) ?_
              refine lv_aload_n hx hb dX7_turns_113 rfl (lv_at hl 1 rfl) ?_
              refine s_i (va_runV (As := []) (rest := [.int (nI a), .ref (o 0), .int (sgS p0 q0 r0 (2 ^ (p0 + q0 + r0) - 1) (2 ^ (p0 + q0 + r0) - 1)), .int (nI ((2 ^ (p0 + q0 + r0) - 1) ^^^ a)), .ref (o 6)]) ⟨hx, hb, hml, hown, hts⟩ (x7_full Z o th p0 q0 r0 1 zz (by omega)) (cwV 0 hts (lw_V q2147 q2149 qs43 q107 q2150) rfl rfl rfl (by decide +kernel) ⟨Nat.le_of_ble_eq_true rfl, Nat.le_of_ble_eq_true rfl⟩) (gP_V (va_recv hK hP (ci := 2) (q0 := 0) rfl rfl) hG hS (fun q _ h => h.elim) (hP.sub (ws' := [(o 0, .inr (2, mFs o th p0 q0 r0 1 zz))]) [0] rfl)) rfl rfl hl.1 rfl (lv_room (Nat.le_of_ble_eq_true rfl)) dX7_turns_114 ⟨by first | decide | omega, by first | decide | omega⟩) ?_
              refine s_i (va_runV (As := [.int (nI a), .int (nI (2 ^ (p0 + q0 + r0) - 1))]) (rest := [.int (sgS p0 q0 r0 (2 ^ (p0 + q0 + r0) - 1) (2 ^ (p0 + q0 + r0) - 1)), .int (nI ((2 ^ (p0 + q0 + r0) - 1) ^^^ a)), .ref (o 6)]) ⟨hx, hb, hml, hown, hts⟩ (x7_signOf Z o th p0 q0 r0 1 zz a (2 ^ (p0 + q0 + r0) - 1) (by omega) (by omega) (by omega)) (cwV 2 hts (lw_V q2161 q2163 qs45 q107 q2164) rfl rfl rfl (by decide +kernel) ⟨Nat.le_of_ble_eq_true rfl, Nat.le_of_ble_eq_true rfl⟩) (gP_V (va_recv hK hP (ci := 2) (q0 := 0) rfl rfl) hG hS (fun q _ h => h.elim) (hP.sub (ws' := [(o 0, .inr (2, mFs o th p0 q0 r0 1 zz))]) [0] rfl)) rfl rfl hl.1 rfl (lv_room (Nat.le_of_ble_eq_true rfl)) dX7_turns_117 ⟨by first | decide | omega, by first | decide | omega⟩) ?_
              refine lv_imul hx hb dX7_turns_120 ?_
              refine lv_i2l (v := ((sgS p0 q0 r0 (2 ^ (p0 + q0 + r0) - 1) (2 ^ (p0 + q0 + r0) - 1)) * (sgS p0 q0 r0 a (2 ^ (p0 + q0 + r0) - 1))).toInt64) hx hb dX7_turns_121 rfl ?_
              refine lv_aload_n hx hb dX7_turns_122 rfl (lv_at hl 1 rfl) ?_
              refine lv_iload_n hx hb dX7_turns_123 rfl (lv_at hl 3 rfl) ?_
              refine lv_iload hx hb dX7_turns_124 (lv_at hl 5 rfl) ?_
              refine s_l (va_runV (As := [.int (nI k1), .int (nI a)]) (rest := [.long (((sgS p0 q0 r0 (2 ^ (p0 + q0 + r0) - 1) (2 ^ (p0 + q0 + r0) - 1)) * (sgS p0 q0 r0 a (2 ^ (p0 + q0 + r0) - 1))).toInt64), .int (nI ((2 ^ (p0 + q0 + r0) - 1) ^^^ a)), .ref (o 6)]) ⟨hx, hb, hml, hown, hts⟩ (x7_of Z o th p0 q0 r0 1 zz fA k1 a (by omega)) (cwV 2 hts (lw_V q2119 q2121 qs38 q107 q2122) rfl rfl rfl (by decide +kernel) ⟨Nat.le_of_ble_eq_true rfl, Nat.le_of_ble_eq_true rfl⟩) (gP_V (va_recv hK hP (ci := 2) (q0 := 0) rfl rfl) hG hS (fun q _ h => h.elim) (hP.sub (ws' := [(o 0, .inr (2, mFs o th p0 q0 r0 1 zz)), (o 5, .inl (dA 1, 2640, .inr (.inl fA)))]) [0, 1] rfl)) rfl rfl hl.1 rfl (lv_room (Nat.le_of_ble_eq_true rfl)) dX7_turns_126 ⟨by first | decide | omega, by first | decide | omega⟩) ?_
              refine e_l (y := M (a + 1)) (hold_at hM (i := a + 1) (by omega) (by omega)) ?_
              refine lv_lmul hx hb dX7_turns_129 ?_
              refine a_last hx hb hK hP hD hS 2 1 rfl rfl hr9 (by omega) dX7_turns_130 (fun H locs hP hD hS => ?_)
              have hP : va_P (dC, dI) vwCl [(o 0, .inr (2, mFs o th p0 q0 r0 1 zz)), (o 5, .inl (dA 1, 2640, .inr (.inl fA))), (o 6, .inl (dA 1, 32, .inr (.inl (vp_updL (trnP 5 p0 q0 r0 M a) ((2 ^ (p0 + q0 + r0) - 1) ^^^ a) ((((sgS p0 q0 r0 (2 ^ (p0 + q0 + r0) - 1) (2 ^ (p0 + q0 + r0) - 1)) * (sgS p0 q0 r0 a (2 ^ (p0 + q0 + r0) - 1))).toInt64) * (M (a + 1)))))))] H := hP
              have hD : va_D A [(o 0, .inr (2, mFs o th p0 q0 r0 1 zz)), (o 5, .inl (dA 1, 2640, .inr (.inl fA))), (o 6, .inl (dA 1, 32, .inr (.inl (vp_updL (trnP 5 p0 q0 r0 M a) ((2 ^ (p0 + q0 + r0) - 1) ^^^ a) ((((sgS p0 q0 r0 (2 ^ (p0 + q0 + r0) - 1) (2 ^ (p0 + q0 + r0) - 1)) * (sgS p0 q0 r0 a (2 ^ (p0 + q0 + r0) - 1))).toInt64) * (M (a + 1)))))))] := hD
              refine lv_goto (tgt := 159) hx hb dX7_turns_131 (by decide) ?_
              have e9 : (vp_updL (trnP 5 p0 q0 r0 M a) ((2 ^ (p0 + q0 + r0) - 1) ^^^ a) ((((sgS p0 q0 r0 (2 ^ (p0 + q0 + r0) - 1) (2 ^ (p0 + q0 + r0) - 1)) * (sgS p0 q0 r0 a (2 ^ (p0 + q0 + r0) - 1))).toInt64) * (M (a + 1))) : Nat → Int64) = (trnP 5 p0 q0 r0 M (a + 1)) := trnP_s hn ha9 (show trnI 5 p0 q0 r0 a = (2 ^ (p0 + q0 + r0) - 1) ^^^ a from rfl) (by rw [show trnG 5 p0 q0 r0 ((2 ^ (p0 + q0 + r0) - 1) ^^^ a) = sgS p0 q0 r0 (2 ^ (p0 + q0 + r0) - 1) (2 ^ (p0 + q0 + r0) - 1) * sgS p0 q0 r0 a (2 ^ (p0 + q0 + r0) - 1) from trnG_5 a])
              rw [e9] at hP hD; clear e9
              refine lv_iinc (v := nI (a + 1)) (lv' := [(4, .int (nI (a + 1))), (5, .int (nI ((2 ^ (p0 + q0 + r0) - 1) ^^^ a))), (0, .ref (o 0)), (1, .int (nI 5)), (2, .int (nI k1)), (3, .int (nI k2))]) hx hb dX7_turns_159 hl (k := 5) rfl (by exact nI_add _ 1) (by decide) rfl (fun ls hl => ?_)
              refine lv_goto (tgt := 7) hx hb dX7_turns_162 (by decide) ?_
              exact ih_1 (a + 1) H locs ls (by omega) (by omega) (hP.sub [0, 1, 2] rfl) (hD.sub [0, 1, 2] (by decide) rfl) hS (lv_sub hl [2, 3, 4, 5, 0] rfl)
          · have c_58 : op = 4 := (nI_eq (a := op) (b := 4) (by omega) (by omega)).mp c_58
            subst c_58
            refine lv_aload_n hx hb dX7_turns_61 rfl (lv_at hl 1 rfl) ?_
            refine va_get (D := (dC, dI)) (ci := 2) (v := .ref (o 6)) (C := RX7) (T := TX7) (N := 27) hx hb hts in_X7 hown hK hP 0 rfl rfl 9 (by decide) (hts _ q2015) (fun _ h9 => h9) rfl dX7_turns_62 ?_
            refine lv_iload hx hb dX7_turns_65 (lv_at hl 0 rfl) ?_
            refine lv_iload hx hb dX7_turns_67 (lv_at hl 0 rfl) ?_
            refine lv_iload hx hb dX7_turns_69 (lv_at hl 5 rfl) ?_
            refine s_i (va_runS (As := [.int (nI ((2 ^ (p0 + q0 + r0) - 1) ^^^ a)), .int (nI a)]) (rest := [.int (nI ((2 ^ (p0 + q0 + r0) - 1) ^^^ a)), .ref (o 6)]) ⟨hx, hb, hml, hown, hts⟩ (x7_order Z ((2 ^ (p0 + q0 + r0) - 1) ^^^ a) a (by omega) (by omega)) (va_cwS 2 hts (lw_S q2155 q2156 q107 q2157) rfl rfl rfl (by decide +kernel) ⟨Nat.le_of_ble_eq_true rfl, Nat.le_of_ble_eq_true rfl⟩) (gP_S hG hS (fun q _ h => h.elim) trivial) rfl rfl hl.1 rfl (lv_room (Nat.le_of_ble_eq_true rfl)) dX7_turns_71 ⟨by first | decide | omega, by first | decide | omega⟩) ?_
            refine lv_i2l (v := (ordS ((2 ^ (p0 + q0 + r0) - 1) ^^^ a) a).toInt64) hx hb dX7_turns_74 rfl ?_
            refine lv_aload_n hx hb dX7_turns_75 rfl (lv_at hl 1 rfl) ?_
            refine lv_iload_n hx hb dX7_turns_76 rfl (lv_at hl 3 rfl) ?_
            refine lv_iload hx hb dX7_turns_77 (lv_at hl 5 rfl) ?_
            refine s_l (va_runV (As := [.int (nI k1), .int (nI a)]) (rest := [.long ((ordS ((2 ^ (p0 + q0 + r0) - 1) ^^^ a) a).toInt64), .int (nI ((2 ^ (p0 + q0 + r0) - 1) ^^^ a)), .ref (o 6)]) ⟨hx, hb, hml, hown, hts⟩ (x7_of Z o th p0 q0 r0 1 zz fA k1 a (by omega)) (cwV 2 hts (lw_V q2119 q2121 qs38 q107 q2122) rfl rfl rfl (by decide +kernel) ⟨Nat.le_of_ble_eq_true rfl, Nat.le_of_ble_eq_true rfl⟩) (gP_V (va_recv hK hP (ci := 2) (q0 := 0) rfl rfl) hG hS (fun q _ h => h.elim) (hP.sub (ws' := [(o 0, .inr (2, mFs o th p0 q0 r0 1 zz)), (o 5, .inl (dA 1, 2640, .inr (.inl fA)))]) [0, 1] rfl)) rfl rfl hl.1 rfl (lv_room (Nat.le_of_ble_eq_true rfl)) dX7_turns_79 ⟨by first | decide | omega, by first | decide | omega⟩) ?_
            refine e_l (y := M (a + 1)) (hold_at hM (i := a + 1) (by omega) (by omega)) ?_
            refine lv_lmul hx hb dX7_turns_82 ?_
            refine a_last hx hb hK hP hD hS 2 1 rfl rfl hr9 (by omega) dX7_turns_83 (fun H locs hP hD hS => ?_)
            have hP : va_P (dC, dI) vwCl [(o 0, .inr (2, mFs o th p0 q0 r0 1 zz)), (o 5, .inl (dA 1, 2640, .inr (.inl fA))), (o 6, .inl (dA 1, 32, .inr (.inl (vp_updL (trnP 4 p0 q0 r0 M a) ((2 ^ (p0 + q0 + r0) - 1) ^^^ a) (((ordS ((2 ^ (p0 + q0 + r0) - 1) ^^^ a) a).toInt64) * (M (a + 1)))))))] H := hP
            have hD : va_D A [(o 0, .inr (2, mFs o th p0 q0 r0 1 zz)), (o 5, .inl (dA 1, 2640, .inr (.inl fA))), (o 6, .inl (dA 1, 32, .inr (.inl (vp_updL (trnP 4 p0 q0 r0 M a) ((2 ^ (p0 + q0 + r0) - 1) ^^^ a) (((ordS ((2 ^ (p0 + q0 + r0) - 1) ^^^ a) a).toInt64) * (M (a + 1)))))))] := hD
            refine lv_goto (tgt := 159) hx hb dX7_turns_84 (by decide) ?_
            have e9 : (vp_updL (trnP 4 p0 q0 r0 M a) ((2 ^ (p0 + q0 + r0) - 1) ^^^ a) (((ordS ((2 ^ (p0 + q0 + r0) - 1) ^^^ a) a).toInt64) * (M (a + 1))) : Nat → Int64) = (trnP 4 p0 q0 r0 M (a + 1)) := trnP_s hn ha9 (show trnI 4 p0 q0 r0 a = (2 ^ (p0 + q0 + r0) - 1) ^^^ a from rfl) (by rw [show trnG 4 p0 q0 r0 ((2 ^ (p0 + q0 + r0) - 1) ^^^ a) = ordS ((2 ^ (p0 + q0 + r0) - 1) ^^^ a) a from trnG_4 a])
            rw [e9] at hP hD; clear e9
            refine lv_iinc (v := nI (a + 1)) (lv' := [(4, .int (nI (a + 1))), (5, .int (nI ((2 ^ (p0 + q0 + r0) - 1) ^^^ a))), (0, .ref (o 0)), (1, .int (nI 4)), (2, .int (nI k1)), (3, .int (nI k2))]) hx hb dX7_turns_159 hl (k := 5) rfl (by exact nI_add _ 1) (by decide) rfl (fun ls hl => ?_)
            refine lv_goto (tgt := 7) hx hb dX7_turns_162 (by decide) ?_
            exact ih_1 (a + 1) H locs ls (by omega) (by omega) (hP.sub [0, 1, 2] rfl) (hD.sub [0, 1, 2] (by decide) rfl) hS (lv_sub hl [2, 3, 4, 5, 0] rfl)
        · have c_27 : op = 3 := (nI_eq (a := op) (b := 3) (by omega) (by omega)).mp c_27
          subst c_27
          refine lv_aload_n hx hb dX7_turns_30 rfl (lv_at hl 1 rfl) ?_
          refine va_get (D := (dC, dI)) (ci := 2) (v := .ref (o 6)) (C := RX7) (T := TX7) (N := 27) hx hb hts in_X7 hown hK hP 0 rfl rfl 9 (by decide) (hts _ q2015) (fun _ h9 => h9) rfl dX7_turns_31 ?_
          refine lv_iload hx hb dX7_turns_34 (lv_at hl 0 rfl) ?_
          refine lv_iload hx hb dX7_turns_36 (lv_at hl 5 rfl) ?_
          refine lv_iload hx hb dX7_turns_38 (lv_at hl 0 rfl) ?_
          refine s_i (va_runS (As := [.int (nI a), .int (nI ((2 ^ (p0 + q0 + r0) - 1) ^^^ a))]) (rest := [.int (nI ((2 ^ (p0 + q0 + r0) - 1) ^^^ a)), .ref (o 6)]) ⟨hx, hb, hml, hown, hts⟩ (x7_order Z a ((2 ^ (p0 + q0 + r0) - 1) ^^^ a) (by omega) (by omega)) (va_cwS 2 hts (lw_S q2155 q2156 q107 q2157) rfl rfl rfl (by decide +kernel) ⟨Nat.le_of_ble_eq_true rfl, Nat.le_of_ble_eq_true rfl⟩) (gP_S hG hS (fun q _ h => h.elim) trivial) rfl rfl hl.1 rfl (lv_room (Nat.le_of_ble_eq_true rfl)) dX7_turns_40 ⟨by first | decide | omega, by first | decide | omega⟩) ?_
          refine lv_i2l (v := (ordS a ((2 ^ (p0 + q0 + r0) - 1) ^^^ a)).toInt64) hx hb dX7_turns_43 rfl ?_
          refine lv_aload_n hx hb dX7_turns_44 rfl (lv_at hl 1 rfl) ?_
          refine lv_iload_n hx hb dX7_turns_45 rfl (lv_at hl 3 rfl) ?_
          refine lv_iload hx hb dX7_turns_46 (lv_at hl 5 rfl) ?_
          refine s_l (va_runV (As := [.int (nI k1), .int (nI a)]) (rest := [.long ((ordS a ((2 ^ (p0 + q0 + r0) - 1) ^^^ a)).toInt64), .int (nI ((2 ^ (p0 + q0 + r0) - 1) ^^^ a)), .ref (o 6)]) ⟨hx, hb, hml, hown, hts⟩ (x7_of Z o th p0 q0 r0 1 zz fA k1 a (by omega)) (cwV 2 hts (lw_V q2119 q2121 qs38 q107 q2122) rfl rfl rfl (by decide +kernel) ⟨Nat.le_of_ble_eq_true rfl, Nat.le_of_ble_eq_true rfl⟩) (gP_V (va_recv hK hP (ci := 2) (q0 := 0) rfl rfl) hG hS (fun q _ h => h.elim) (hP.sub (ws' := [(o 0, .inr (2, mFs o th p0 q0 r0 1 zz)), (o 5, .inl (dA 1, 2640, .inr (.inl fA)))]) [0, 1] rfl)) rfl rfl hl.1 rfl (lv_room (Nat.le_of_ble_eq_true rfl)) dX7_turns_48 ⟨by first | decide | omega, by first | decide | omega⟩) ?_
          refine e_l (y := M (a + 1)) (hold_at hM (i := a + 1) (by omega) (by omega)) ?_
          refine lv_lmul hx hb dX7_turns_51 ?_
          refine a_last hx hb hK hP hD hS 2 1 rfl rfl hr9 (by omega) dX7_turns_52 (fun H locs hP hD hS => ?_)
          have hP : va_P (dC, dI) vwCl [(o 0, .inr (2, mFs o th p0 q0 r0 1 zz)), (o 5, .inl (dA 1, 2640, .inr (.inl fA))), (o 6, .inl (dA 1, 32, .inr (.inl (vp_updL (trnP 3 p0 q0 r0 M a) ((2 ^ (p0 + q0 + r0) - 1) ^^^ a) (((ordS a ((2 ^ (p0 + q0 + r0) - 1) ^^^ a)).toInt64) * (M (a + 1)))))))] H := hP
          have hD : va_D A [(o 0, .inr (2, mFs o th p0 q0 r0 1 zz)), (o 5, .inl (dA 1, 2640, .inr (.inl fA))), (o 6, .inl (dA 1, 32, .inr (.inl (vp_updL (trnP 3 p0 q0 r0 M a) ((2 ^ (p0 + q0 + r0) - 1) ^^^ a) (((ordS a ((2 ^ (p0 + q0 + r0) - 1) ^^^ a)).toInt64) * (M (a + 1)))))))] := hD
          refine lv_goto (tgt := 159) hx hb dX7_turns_53 (by decide) ?_
          have e9 : (vp_updL (trnP 3 p0 q0 r0 M a) ((2 ^ (p0 + q0 + r0) - 1) ^^^ a) (((ordS a ((2 ^ (p0 + q0 + r0) - 1) ^^^ a)).toInt64) * (M (a + 1))) : Nat → Int64) = (trnP 3 p0 q0 r0 M (a + 1)) := trnP_s hn ha9 (show trnI 3 p0 q0 r0 a = (2 ^ (p0 + q0 + r0) - 1) ^^^ a from rfl) (by rw [show trnG 3 p0 q0 r0 ((2 ^ (p0 + q0 + r0) - 1) ^^^ a) = ordS a ((2 ^ (p0 + q0 + r0) - 1) ^^^ a) from trnG_3 a])
          rw [e9] at hP hD; clear e9
          refine lv_iinc (v := nI (a + 1)) (lv' := [(4, .int (nI (a + 1))), (5, .int (nI ((2 ^ (p0 + q0 + r0) - 1) ^^^ a))), (0, .ref (o 0)), (1, .int (nI 3)), (2, .int (nI k1)), (3, .int (nI k2))]) hx hb dX7_turns_159 hl (k := 5) rfl (by exact nI_add _ 1) (by decide) rfl (fun ls hl => ?_)
          refine lv_goto (tgt := 7) hx hb dX7_turns_162 (by decide) ?_
          exact ih_1 (a + 1) H locs ls (by omega) (by omega) (hP.sub [0, 1, 2] rfl) (hD.sub [0, 1, 2] (by decide) rfl) hS (lv_sub hl [2, 3, 4, 5, 0] rfl)
  exact loop_1 _ 0 H locs ls (Nat.lt_succ_self _) (by omega) hP hD hS (lv_sub hl [1, 2, 3, 4, 0] rfl)
set_option maxHeartbeats 4000000 in
theorem x7_isNumber {l : Launch} {dC : Nat → ClassId} {dI : Nat → Nat → Nat} {dA : Nat → ClassId} {s0 : State} {b0 : Addr} (Z : Z0 l dC dI dA s0 b0) (o : Nat → Nat) (th : Int32) (p0 q0 r0 : Nat) (mu : Int64) (zz : Nat → Int32) (fA : Nat → Int64) (k1 : Nat) (M : MV) (hk1 : k1 < 80) (hM : Hold fA k1 M) : Met l yX7_isNumber (ws_ yX7_isNumber cX7_isNumber 4 (some .boolean)) ({ frames := 2, cells := 0, slots := 0, locals := 120 } : Room) (gP [.ref (o 0), .int (nI k1)] s0 (fun _ => False) (fun H => va_P (dC, dI) vwCl [(o 0, .inr (2, mFs o th p0 q0 r0 mu zz)), (o 5, .inl (dA 1, 2640, .inr (.inl fA)))] H)) (vp_Si (fun r => r = bI (isNumB M 32))) 0 0 (fun _ => False) := by
  refine Met.ofW (cc := cX7_isNumber) (maxL := 4) (ret := (some .boolean)) (by decide) rfl ?_
  intro p e s m args below meth c s₁ B hml hv
  obtain ⟨hav, hG, hP⟩ := hv
  have hx := B.exec
  have hb := B.bytes
  have hr := B.returns
  have hts := atoms_spec (ws := (ws_ yX7_isNumber cX7_isNumber 4 (some .boolean))) B.pre
  have hts : ∀ w ∈ lw_all, w.before _ s = true := fun w h => hts w (List.mem_cons_of_mem _ h)
  have hown : s.vm.findClass RX7 = some m.cls := findClass_of_methodNamed B.named
  have hlocks := B.notSynchronized
  have hK := hG.K Z
  have hS : va_S (fun _ => False) s.heap s.heap [] := va_S.rf
  have hl := lv_entry ([.ref (o 0), .int (nI k1)]) (n := 4) (Nat.le_of_ble_eq_true rfl)
  rw [show entryFrame m args 4 = entryFrame m ([.ref (o 0), .int (nI k1)] : List Value).toArray 4 from by rw [hav], lg_entry_eq]
  generalize (lg_sl ([.ref (o 0), .int (nI k1)]) ++ List.replicate (4 - (lg_sl ([.ref (o 0), .int (nI k1)])).length) Slot.unset).toArray = ls at hl ⊢
  have hl : lv_has ls 4 [(0, .ref (o 0)), (1, .int (nI k1))] := hl
  generalize hQe : MQ below _ _ s _ _ _ = Q
  change W p l e ({ frames := 2, cells := 0, slots := 0, locals := 120 } : Room) s m args below meth c s.heap [] 0 0 Q (F0 m 0 ls [])
  have J_1 : ∀  (ls : Array Slot), lv_has ls 4 [(0, .ref (o 0)), (1, .int (nI k1))] → W p l e ({ frames := 2, cells := 0, slots := 0, locals := 120 } : Room) s m args below meth c s.heap [] 0 0 Q (F0 m 16 ls [.int (bI (isNumB M 1))]) := by
    intro  ls  hl
    refine lv_istore_n (lv' := [(2, .int (bI (isNumB M 1))), (0, .ref (o 0)), (1, .int (nI k1))]) hx hb dX7_isNumber_16 rfl hl (by decide) rfl (fun ls hl => ?_)
    refine lv_iconst (v := nI 1) hx hb dX7_isNumber_17 (by decide) ?_
    refine lv_istore_n (lv' := [(3, .int (nI 1)), (2, .int (bI (isNumB M 1))), (0, .ref (o 0)), (1, .int (nI k1))]) hx hb dX7_isNumber_18 rfl hl (by decide) rfl (fun ls hl => ?_)
    have loop_2 : ∀ (n9_2 : Nat) (k : Nat) (ls : Array Slot), 32 - k < n9_2 → (1 ≤ k) → (k ≤ 32) → lv_has ls 4 [(0, .ref (o 0)), (1, .int (nI k1)), (2, .int (bI (isNumB M k))), (3, .int (nI k))] → W p l e ({ frames := 2, cells := 0, slots := 0, locals := 120 } : Room) s m args below meth c s.heap [] 0 0 Q (F0 m 19 ls []) := by
      intro n9_2
      induction n9_2 with
      | zero => intro k ls hm_2; exact absurd hm_2 (Nat.not_lt_zero _)
      | succ n9_2 ih_2 =>
        intro k ls hm_2 hk8 hk9 hl
        refine lv_iload_n hx hb dX7_isNumber_19 rfl (lv_at hl 3 rfl) ?_
        refine lv_bipush (v := nI 32) hx hb dX7_isNumber_20 (by decide) ?_
        refine lv_icmp_ge (tgt := 52) hx hb dX7_isNumber_22 (by decide) (fun c_22 => ?_) (fun c_22 => ?_)
        · have c_22 : 32 ≤ k := (nI_leI (a := 32) (b := k) (by omega) (by omega)).mp c_22
          obtain rfl : k = 32 := by omega
          refine lv_iload_n hx hb dX7_isNumber_52 rfl (lv_at hl 2 rfl) ?_
          subst hQe
          exact W.zret (v := bI (isNumB M 32)) hx hb hr (bI_z _) (fun t ht hW => ⟨_, rfl, rfl, ht⟩) hS.2.2 dX7_isNumber_53
        · have c_22 : ¬ 32 ≤ k := fun h => c_22 ((nI_leI (a := 32) (b := k) (by omega) (by omega)).mpr h)
          refine lv_iload_n hx hb dX7_isNumber_25 rfl (lv_at hl 2 rfl) ?_
          refine lv_if_eq (tgt := 52) hx hb dX7_isNumber_26 (by decide) (fun c_26 => ?_) (fun c_26 => ?_)
          · refine lv_iload_n hx hb dX7_isNumber_52 rfl (lv_at hl 2 rfl) ?_
            subst hQe
            exact W.zret (v := bI (isNumB M k)) hx hb hr (bI_z _) (fun t ht hW => ⟨_, rfl, (by rw [bI_0 c_26, isNumB_mono (bI_0 c_26) hk9]), ht⟩) hS.2.2 dX7_isNumber_53
          · refine lv_aload_n hx hb dX7_isNumber_29 rfl (lv_at hl 0 rfl) ?_
            refine lv_iload_n hx hb dX7_isNumber_30 rfl (lv_at hl 1 rfl) ?_
            refine lv_iload_n hx hb dX7_isNumber_31 rfl (lv_at hl 3 rfl) ?_
            refine s_l (va_runV (As := [.int (nI k1), .int (nI k)]) (rest := []) ⟨hx, hb, hml, hown, hts⟩ (x7_of Z o th p0 q0 r0 mu zz fA k1 k (by omega)) (cwV 2 hts (lw_V q2119 q2121 qs38 q107 q2122) rfl rfl rfl (by decide +kernel) ⟨Nat.le_of_ble_eq_true rfl, Nat.le_of_ble_eq_true rfl⟩) (gP_V (va_recv hK hP (ci := 2) (q0 := 0) rfl rfl) hG hS (fun q _ h => h.elim) (hP.sub (ws' := [(o 0, .inr (2, mFs o th p0 q0 r0 mu zz)), (o 5, .inl (dA 1, 2640, .inr (.inl fA)))]) [0, 1] rfl)) rfl rfl hl.1 rfl (lv_room (Nat.le_of_ble_eq_true rfl)) dX7_isNumber_32 ⟨by first | decide | omega, by first | decide | omega⟩) ?_
            refine e_l (y := M (k + 1)) (hold_at hM (i := k + 1) (by omega) (by omega)) ?_
            refine lv_lconst (v := 0) hx hb dX7_isNumber_35 rfl ?_
            refine W.lcmp hx hb dX7_isNumber_36 ?_
            refine lv_if_ne (tgt := 44) hx hb dX7_isNumber_37 (by decide) (fun c_37 => ?_) (fun c_37 => ?_)
            · have c_37 : ¬ (M (k + 1)) = 0 := fun h => c_37 ((lg_cmp_eq _ _).mpr h)
              refine lv_iconst (v := nI 0) hx hb dX7_isNumber_44 (by decide) ?_
              refine e_i (y := bI (isNumB M (k + 1))) ((by show _ = bI (if k = 0 then isNumB M k else isNumB M k && decide (M (k + 1) = 0)); rw [if_neg (by omega), bI_1 c_26, Bool.true_and, decide_eq_false c_37]; rfl)) ?_
              refine lv_istore_n (lv' := [(2, .int (bI (isNumB M (k + 1)))), (0, .ref (o 0)), (1, .int (nI k1)), (3, .int (nI k))]) hx hb dX7_isNumber_45 rfl hl (by decide) rfl (fun ls hl => ?_)
              refine lv_iinc (v := nI (k + 1)) (lv' := [(3, .int (nI (k + 1))), (2, .int (bI (isNumB M (k + 1)))), (0, .ref (o 0)), (1, .int (nI k1))]) hx hb dX7_isNumber_46 hl (k := 3) rfl (by exact nI_add _ 1) (by decide) rfl (fun ls hl => ?_)
              refine lv_goto (tgt := 19) hx hb dX7_isNumber_49 (by decide) ?_
              exact ih_2 (k + 1) ls (by omega) (by omega) (by omega) (lv_sub hl [2, 3, 1, 0] rfl)
            · have c_37 : (M (k + 1)) = 0 := (lg_cmp_eq _ _).mp c_37
              refine lv_iconst (v := nI 1) hx hb dX7_isNumber_40 (by decide) ?_
              refine lv_goto (tgt := 45) hx hb dX7_isNumber_41 (by decide) ?_
              refine e_i (y := bI (isNumB M (k + 1))) ((by show _ = bI (if k = 0 then isNumB M k else isNumB M k && decide (M (k + 1) = 0)); rw [if_neg (by omega), bI_1 c_26, Bool.true_and, decide_eq_true c_37]; rfl)) ?_
              refine lv_istore_n (lv' := [(2, .int (bI (isNumB M (k + 1)))), (0, .ref (o 0)), (1, .int (nI k1)), (3, .int (nI k))]) hx hb dX7_isNumber_45 rfl hl (by decide) rfl (fun ls hl => ?_)
              refine lv_iinc (v := nI (k + 1)) (lv' := [(3, .int (nI (k + 1))), (2, .int (bI (isNumB M (k + 1)))), (0, .ref (o 0)), (1, .int (nI k1))]) hx hb dX7_isNumber_46 hl (k := 3) rfl (by exact nI_add _ 1) (by decide) rfl (fun ls hl => ?_)
              refine lv_goto (tgt := 19) hx hb dX7_isNumber_49 (by decide) ?_
              exact ih_2 (k + 1) ls (by omega) (by omega) (by omega) (lv_sub hl [2, 3, 1, 0] rfl)
    exact loop_2 _ 1 ls (Nat.lt_succ_self _) (by omega) (by omega) (lv_sub hl [2, 3, 1, 0] rfl)
  refine lv_aload_n hx hb dX7_isNumber_0 rfl (lv_at hl 0 rfl) ?_
  refine lv_iload_n hx hb dX7_isNumber_1 rfl (lv_at hl 1 rfl) ?_
  refine lv_iconst (v := nI 0) hx hb dX7_isNumber_2 (by decide) ?_
  refine s_l (va_runV (As := [.int (nI k1), .int (nI 0)]) (rest := []) ⟨hx, hb, hml, hown, hts⟩ (x7_of Z o th p0 q0 r0 mu zz fA k1 0 (by omega)) (cwV 2 hts (lw_V q2119 q2121 qs38 q107 q2122) rfl rfl rfl (by decide +kernel) ⟨Nat.le_of_ble_eq_true rfl, Nat.le_of_ble_eq_true rfl⟩) (gP_V (va_recv hK hP (ci := 2) (q0 := 0) rfl rfl) hG hS (fun q _ h => h.elim) (hP.sub (ws' := [(o 0, .inr (2, mFs o th p0 q0 r0 mu zz)), (o 5, .inl (dA 1, 2640, .inr (.inl fA)))]) [0, 1] rfl)) rfl rfl hl.1 rfl (lv_room (Nat.le_of_ble_eq_true rfl)) dX7_isNumber_3 ⟨by first | decide | omega, by first | decide | omega⟩) ?_
  refine e_l (y := M 1) (hold_at hM (i := 0 + 1) (by omega) (by omega)) ?_
  refine lv_lconst (v := 0) hx hb dX7_isNumber_6 rfl ?_
  refine W.lcmp hx hb dX7_isNumber_7 ?_
  refine lv_if_eq (tgt := 15) hx hb dX7_isNumber_8 (by decide) (fun c_8 => ?_) (fun c_8 => ?_)
  · have c_8 : (M 1) = 0 := (lg_cmp_eq _ _).mp c_8
    refine lv_iconst (v := nI 0) hx hb dX7_isNumber_15 (by decide) ?_
    refine e_i (y := bI (isNumB M 1)) ((by show _ = bI (decide (M 1 ≠ 0)); rw [decide_eq_false (fun h => h c_8)]; rfl)) ?_
    exact J_1  ls  (lv_sub hl [0, 1] rfl)
  · have c_8 : ¬ (M 1) = 0 := fun h => c_8 ((lg_cmp_eq _ _).mpr h)
    refine lv_iconst (v := nI 1) hx hb dX7_isNumber_11 (by decide) ?_
    refine lv_goto (tgt := 16) hx hb dX7_isNumber_12 (by decide) ?_
    refine e_i (y := bI (isNumB M 1)) ((by show _ = bI (decide (M 1 ≠ 0)); rw [decide_eq_true c_8]; rfl)) ?_
    exact J_1  ls  (lv_sub hl [0, 1] rfl)
