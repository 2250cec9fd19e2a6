set_option maxHeartbeats 4000000 in
theorem x1_isIn {l : Launch} {dC : Nat → ClassId} {dI : Nat → Nat → Nat} {dA : Nat → ClassId} {s0 : State} {b0 : Addr} (Z : Z0 l dC dI dA s0 b0) (v lo hi : Int64) : Met l yX1_isIn (ws_ yX1_isIn cX1_isIn 6 (some .boolean)) ({ frames := 1, cells := 0, slots := 0, locals := 60 } : Room) (gP [.long v, .long lo, .long hi] s0 (fun _ => False) (fun H => True)) (vp_Si (fun r => r = bI (inL v lo hi))) 0 0 (fun _ => False) := by
  refine Met.ofW (cc := cX1_isIn) (maxL := 6) (ret := (some .boolean)) (by decide) rfl ?_
  intro p e s m args below meth c s₁ B hml hv
  obtain ⟨hav, hG, hno⟩ := hv
  have hx := B.exec
  have hb := B.bytes
  have hr := B.returns
  have hts := atoms_spec (ws := (ws_ yX1_isIn cX1_isIn 6 (some .boolean))) B.pre
  have hts : ∀ w ∈ lw_all, w.before _ s = true := fun w h => hts w (List.mem_cons_of_mem _ h)
  have hown : s.vm.findClass RX1 = some m.cls := findClass_of_methodNamed B.named
  have hlocks := B.notSynchronized
  have hK := hG.K Z
  have hS : va_S (fun _ => False) s.heap s.heap [] := va_S.rf
  have hP : va_P (dC, dI) vwCl [] s.heap := fun k q h => by simp at h
  have hD : va_D (fun _ => False) [] := ⟨fun i j p q h => by simp at h, fun k q h => by simp at h⟩
  have hl := lv_entry ([.long v, .long lo, .long hi]) (n := 6) (Nat.le_of_ble_eq_true rfl)
  rw [show entryFrame m args 6 = entryFrame m ([.long v, .long lo, .long hi] : List Value).toArray 6 from by rw [hav], lg_entry_eq]
  generalize (lg_sl ([.long v, .long lo, .long hi]) ++ List.replicate (6 - (lg_sl ([.long v, .long lo, .long hi])).length) Slot.unset).toArray = ls at hl ⊢
  have hl : lv_has ls 6 [(0, .long v), (2, .long lo), (4, .long hi)] := hl
  generalize hQe : MQ below _ _ s _ _ _ = Q
  change W p l e ({ frames := 1, cells := 0, slots := 0, locals := 60 } : Room) s m args below meth c s.heap [] 0 0 Q (F0 m 0 ls [])
  refine lv_lload_n hx hb dX1_isIn_0 rfl (lv_at hl 0 rfl) ?_
  refine lv_lload_n hx hb dX1_isIn_1 rfl (lv_at hl 1 rfl) ?_
  refine W.lcmp hx hb dX1_isIn_2 ?_
  refine lv_if_lt (tgt := 17) hx hb dX1_isIn_3 (by decide) (fun c_3 => ?_) (fun c_3 => ?_)
  · have c_3 : v < lo := (lg_cmp_lt _ _).mp c_3
    refine lv_iconst (v := nI 0) hx hb dX1_isIn_17 (by decide) ?_
    subst hQe
    exact W.zret (v := nI 0) hx hb hr rfl (fun tz ht hW => ⟨_, rfl, (by unfold inL; rw [decide_eq_false (Int64.not_le.mpr c_3)]; rfl), ht⟩) hS.2.2 dX1_isIn_18
  · have c_3 : ¬ v < lo := fun h => c_3 ((lg_cmp_lt _ _).mpr h)
    refine lv_lload_n hx hb dX1_isIn_6 rfl (lv_at hl 0 rfl) ?_
    refine lv_lload hx hb dX1_isIn_7 (lv_at hl 2 rfl) ?_
    refine W.lcmp hx hb dX1_isIn_9 ?_
    refine lv_if_gt (tgt := 17) hx hb dX1_isIn_10 (by decide) (fun c_10 => ?_) (fun c_10 => ?_)
    · have c_10 : hi < v := (lg_cmp_gt _ _).mp c_10
      refine lv_iconst (v := nI 0) hx hb dX1_isIn_17 (by decide) ?_
      subst hQe
      exact W.zret (v := nI 0) hx hb hr rfl (fun tz ht hW => ⟨_, rfl, (by unfold inL; rw [decide_eq_false (Int64.not_le.mpr c_10), Bool.and_false]; rfl), ht⟩) hS.2.2 dX1_isIn_18
    · have c_10 : ¬ hi < v := fun h => c_10 ((lg_cmp_gt _ _).mpr h)
      refine lv_iconst (v := nI 1) hx hb dX1_isIn_13 (by decide) ?_
      refine lv_goto (tgt := 18) hx hb dX1_isIn_14 (by decide) ?_
      subst hQe
      exact W.zret (v := nI 1) hx hb hr rfl (fun tz ht hW => ⟨_, rfl, (by unfold inL; rw [decide_eq_true (Int64.not_lt.mp c_3), decide_eq_true (Int64.not_lt.mp c_10)]; rfl), ht⟩) hS.2.2 dX1_isIn_18
set_option maxHeartbeats 4000000 in
theorem x1_common {l : Launch} {dC : Nat → ClassId} {dI : Nat → Nat → Nat} {dA : Nat → ClassId} {s0 : State} {b0 : Addr} (Z : Z0 l dC dI dA s0 b0) (a b : Int64) (ha : a ≠ Int64.minValue) (hbb : b ≠ Int64.minValue) : Met l yX1_common (ws_ yX1_common cX1_common 10 (some .long)) ({ frames := 2, cells := 0, slots := 0, locals := 120 } : Room) (gP [.long a, .long b] s0 (fun _ => False) (fun H => True)) (vp_Sl (fun r => r = gcdL a b)) 0 0 (fun _ => False) := by
  refine Met.ofW (cc := cX1_common) (maxL := 10) (ret := (some .long)) (by decide) rfl ?_
  intro p e s m args below meth c s₁ B hml hv
  obtain ⟨hav, hG, hno⟩ := hv
  have hx := B.exec
  have hb := B.bytes
  have hr := B.returns
  have hts := atoms_spec (ws := (ws_ yX1_common cX1_common 10 (some .long))) B.pre
  have hts : ∀ w ∈ lw_all, w.before _ s = true := fun w h => hts w (List.mem_cons_of_mem _ h)
  have hown : s.vm.findClass RX1 = some m.cls := findClass_of_methodNamed B.named
  have hlocks := B.notSynchronized
  have hK := hG.K Z
  have hS : va_S (fun _ => False) s.heap s.heap [] := va_S.rf
  have hP : va_P (dC, dI) vwCl [] s.heap := fun k q h => by simp at h
  have hD : va_D (fun _ => False) [] := ⟨fun i j p q h => by simp at h, fun k q h => by simp at h⟩
  have hl := lv_entry ([.long a, .long b]) (n := 10) (Nat.le_of_ble_eq_true rfl)
  rw [show entryFrame m args 10 = entryFrame m ([.long a, .long b] : List Value).toArray 10 from by rw [hav], lg_entry_eq]
  generalize (lg_sl ([.long a, .long b]) ++ List.replicate (10 - (lg_sl ([.long a, .long b])).length) Slot.unset).toArray = ls at hl ⊢
  have hl : lv_has ls 10 [(0, .long a), (2, .long b)] := hl
  generalize hQe : MQ below _ _ s _ _ _ = Q
  change W p l e ({ frames := 2, cells := 0, slots := 0, locals := 120 } : Room) s m args below meth c s.heap [] 0 0 Q (F0 m 0 ls [])
  refine lv_lload_n hx hb dX1_common_0 rfl (lv_at hl 0 rfl) ?_
  refine va_mabs_long hx hb (hml.trans hl.1.symm) hown (hts _ q516) (hts _ q517) (hts _ q115) (hts _ q518) (by decide) (Nat.le_of_ble_eq_true rfl) (by first | decide | omega) (by first | decide | omega) dX1_common_1 ?_
  refine e_l (y := absL a) (abs_if _) ?_
  refine lv_lstore (lv' := [(4, .long (absL a)), (0, .long a), (2, .long b)]) hx hb dX1_common_4 hl (by decide) rfl (fun ls hl => ?_)
  refine lv_lload_n hx hb dX1_common_6 rfl (lv_at hl 2 rfl) ?_
  refine va_mabs_long hx hb (hml.trans hl.1.symm) hown (hts _ q516) (hts _ q517) (hts _ q115) (hts _ q518) (by decide) (Nat.le_of_ble_eq_true rfl) (by first | decide | omega) (by first | decide | omega) dX1_common_7 ?_
  refine e_l (y := absL b) (abs_if _) ?_
  refine lv_lstore (lv' := [(6, .long (absL b)), (4, .long (absL a)), (0, .long a), (2, .long b)]) hx hb dX1_common_10 hl (by decide) rfl (fun ls hl => ?_)
  have hl : lv_has ls 10 [(6, .long (absL b)), (4, .long (lN (aN a))), (0, .long a), (2, .long b)] := by rw [show lN (aN a) = absL a from (absL_lN ha).symm]; exact hl
  have hl : lv_has ls 10 [(6, .long (lN (aN b))), (4, .long (lN (aN a))), (0, .long a), (2, .long b)] := by rw [show lN (aN b) = absL b from (absL_lN hbb).symm]; exact hl
  have loop_1 : ∀ (n9_1 : Nat) (x : Nat) (y : Nat) (ls : Array Slot), y < n9_1 → (x < 2 ^ 63) → (y < 2 ^ 63) → (Nat.gcd x y = Nat.gcd (aN a) (aN b)) → lv_has ls 10 [(0, .long a), (2, .long b), (4, .long (lN x)), (6, .long (lN y))] → W p l e ({ frames := 2, cells := 0, slots := 0, locals := 120 } : Room) s m args below meth c s.heap [] 0 0 Q (F0 m 12 ls []) := by
    intro n9_1
    induction n9_1 with
    | zero => intro x y ls hm_1; exact absurd hm_1 (Nat.not_lt_zero _)
    | succ n9_1 ih_1 =>
      intro x y ls hm_1 hx9 hy9 hg9 hl
      refine lv_lload hx hb dX1_common_12 (lv_at hl 3 rfl) ?_
      refine lv_lconst (v := 0) hx hb dX1_common_14 rfl ?_
      refine W.lcmp hx hb dX1_common_15 ?_
      refine lv_if_eq (tgt := 37) hx hb dX1_common_16 (by decide) (fun c_16 => ?_) (fun c_16 => ?_)
      · have c_16 : (lN y) = 0 := (lg_cmp_eq _ _).mp c_16
        obtain rfl : y = 0 := by have h9 := (pk_lEQ hy9 (by decide : 0 < 2 ^ 63)).mp c_16; exact h9
        refine lv_lload hx hb dX1_common_37 (lv_at hl 2 rfl) ?_
        refine e_l (y := gcdL a b) ((by unfold gcdL; rw [← hg9, Nat.gcd_zero_right])) ?_
        subst hQe
        exact W.lret (v := gcdL a b) hx hb hr (fun tz ht hW => ⟨_, rfl, rfl, ht⟩) hS.2.2 dX1_common_39
      · have c_16 : ¬ (lN y) = 0 := fun h => c_16 ((lg_cmp_eq _ _).mpr h)
        have hy0 : 0 < y := Nat.pos_of_ne_zero (fun h => c_16 (by rw [h]; rfl))
        refine lv_lload hx hb dX1_common_19 (lv_at hl 2 rfl) ?_
        refine lv_lload hx hb dX1_common_21 (lv_at hl 3 rfl) ?_
        refine lv_lrem hx hb dX1_common_23 (fun h => c_16 h) ?_
        refine e_l (y := lN (x % y)) (pk_lRem hx9 hy0 hy9) ?_
        refine lv_lstore (lv' := [(8, .long (lN (x % y))), (0, .long a), (2, .long b), (4, .long (lN x)), (6, .long (lN y))]) hx hb dX1_common_24 hl (by decide) rfl (fun ls hl => ?_)
        refine lv_lload hx hb dX1_common_26 (lv_at hl 4 rfl) ?_
        refine lv_lstore (lv' := [(4, .long (lN y)), (8, .long (lN (x % y))), (0, .long a), (2, .long b), (6, .long (lN y))]) hx hb dX1_common_28 hl (by decide) rfl (fun ls hl => ?_)
        refine lv_lload hx hb dX1_common_30 (lv_at hl 1 rfl) ?_
        refine lv_lstore (lv' := [(6, .long (lN (x % y))), (4, .long (lN y)), (8, .long (lN (x % y))), (0, .long a), (2, .long b)]) hx hb dX1_common_32 hl (by decide) rfl (fun ls hl => ?_)
        refine lv_goto (tgt := 12) hx hb dX1_common_34 (by decide) ?_
        exact ih_1 y (x % y) ls (Nat.lt_of_lt_of_le (Nat.mod_lt _ hy0) (by omega)) hy9 (Nat.lt_trans (Nat.mod_lt _ hy0) hy9) (by rw [← hg9, Nat.gcd_comm x y, Nat.gcd_rec y x, Nat.gcd_comm]) (lv_sub hl [3, 4, 1, 0] rfl)
  exact loop_1 _ (aN a) (aN b) ls (Nat.lt_succ_self _) (aN_lt ha) (aN_lt hbb) rfl (lv_sub hl [2, 3, 1, 0] rfl)
set_option maxHeartbeats 4000000 in
theorem x6_terms {l : Launch} {dC : Nat → ClassId} {dI : Nat → Nat → Nat} {dA : Nat → ClassId} {s0 : State} {b0 : Addr} (Z : Z0 l dC dI dA s0 b0) (ma mr : Nat) (M : MV) : Met l yX6_terms (ws_ yX6_terms cX6_terms 3 (some .int)) ({ frames := 1, cells := 0, slots := 0, locals := 60 } : Room) (gP [.ref ma] s0 (fun _ => False) (fun H => va_P (dC, dI) vwCl [(ma, .inr (0, [.ref mr, .long (M 0)])), (mr, .inl (dA 1, 32, .inr (.inl (fun j => M (j + 1)))))] H)) (vp_Si (fun r => r = nI (trmS M))) 0 0 (fun _ => False) := by
  refine Met.ofW (cc := cX6_terms) (maxL := 3) (ret := (some .int)) (by decide) rfl ?_
  intro p e s m args below meth c s₁ B hml hv
  obtain ⟨hav, hG, hP⟩ := hv
  have hx := B.exec
  have hb := B.bytes
  have hr := B.returns
  have hts := atoms_spec (ws := (ws_ yX6_terms cX6_terms 3 (some .int))) B.pre
  have hts : ∀ w ∈ lw_all, w.before _ s = true := fun w h => hts w (List.mem_cons_of_mem _ h)
  have hown : s.vm.findClass RX6 = some m.cls := findClass_of_methodNamed B.named
  have hlocks := B.notSynchronized
  have hK := hG.K Z
  have hS : va_S (fun _ => False) s.heap s.heap [] := va_S.rf
  have hl := lv_entry ([.ref ma]) (n := 3) (Nat.le_of_ble_eq_true rfl)
  rw [show entryFrame m args 3 = entryFrame m ([.ref ma] : List Value).toArray 3 from by rw [hav], lg_entry_eq]
  generalize (lg_sl ([.ref ma]) ++ List.replicate (3 - (lg_sl ([.ref ma])).length) Slot.unset).toArray = ls at hl ⊢
  have hl : lv_has ls 3 [(0, .ref ma)] := hl
  generalize hQe : MQ below _ _ s _ _ _ = Q
  change W p l e ({ frames := 1, cells := 0, slots := 0, locals := 60 } : Room) s m args below meth c s.heap [] 0 0 Q (F0 m 0 ls [])
  refine lv_iconst (v := nI 0) hx hb dX6_terms_0 (by decide) ?_
  refine lv_istore_n (lv' := [(1, .int (nI 0)), (0, .ref ma)]) hx hb dX6_terms_1 rfl hl (by decide) rfl (fun ls hl => ?_)
  refine lv_iconst (v := nI 0) hx hb dX6_terms_2 (by decide) ?_
  refine lv_istore_n (lv' := [(2, .int (nI 0)), (1, .int (nI 0)), (0, .ref ma)]) hx hb dX6_terms_3 rfl hl (by decide) rfl (fun ls hl => ?_)
  have loop_1 : ∀ (n9_1 : Nat) (k : Nat) (ls : Array Slot), 32 - k < n9_1 → (k ≤ 32) → lv_has ls 3 [(0, .ref ma), (1, .int (nI (cntN (fun j => M (j + 1)) k))), (2, .int (nI k))] → W p l e ({ frames := 1, cells := 0, slots := 0, locals := 60 } : Room) s m args below meth c s.heap [] 0 0 Q (F0 m 4 ls []) := by
    intro n9_1
    induction n9_1 with
    | zero => intro k ls hm_1; exact absurd hm_1 (Nat.not_lt_zero _)
    | succ n9_1 ih_1 =>
      intro k ls hm_1 hk9 hl
      have hc9 := cntN_le (fun j => M (j + 1)) k
      refine lv_iload_n hx hb dX6_terms_4 rfl (lv_at hl 2 rfl) ?_
      refine lv_bipush (v := nI 32) hx hb dX6_terms_5 (by decide) ?_
      refine lv_icmp_ge (tgt := 35) hx hb dX6_terms_7 (by decide) (fun c_7 => ?_) (fun c_7 => ?_)
      · have c_7 : 32 ≤ k := (nI_leI (a := 32) (b := k) (by omega) (by omega)).mp c_7
        obtain rfl : k = 32 := by omega
        refine lv_iload_n hx hb dX6_terms_35 rfl (lv_at hl 1 rfl) ?_
        subst hQe
        exact W.iret (v := nI (cntN (fun j => M (j + 1)) 32)) hx hb hr (fun tz ht hW => ⟨_, rfl, rfl, ht⟩) hS.2.2 dX6_terms_36
      · have c_7 : ¬ 32 ≤ k := fun h => c_7 ((nI_leI (a := 32) (b := k) (by omega) (by omega)).mpr h)
        refine lv_iload_n hx hb dX6_terms_10 rfl (lv_at hl 1 rfl) ?_
        refine lv_aload_n hx hb dX6_terms_11 rfl (lv_at hl 0 rfl) ?_
        refine va_get (D := (dC, dI)) (ci := 0) (v := .ref mr) (C := RX6) (T := TX6) (N := 2) hx hb hts in_X6 hown hK hP 0 rfl rfl 0 (by decide) (hts _ q549) (fun _ h9 => h9) rfl dX6_terms_12 ?_
        refine lv_iload_n hx hb dX6_terms_15 rfl (lv_at hl 2 rfl) ?_
        refine a_lald hx hb hK hP 1 1 rfl rfl (by omega) (by omega) dX6_terms_16 ?_
        refine e_l (y := M (k + 1)) (rfl) ?_
        refine lv_lconst (v := 0) hx hb dX6_terms_17 rfl ?_
        refine W.lcmp hx hb dX6_terms_18 ?_
        refine lv_if_eq (tgt := 26) hx hb dX6_terms_19 (by decide) (fun c_19 => ?_) (fun c_19 => ?_)
        · have c_19 : (M (k + 1)) = 0 := (lg_cmp_eq _ _).mp c_19
          refine lv_iconst (v := nI 0) hx hb dX6_terms_26 (by decide) ?_
          refine lv_iadd hx hb dX6_terms_27 ?_
          refine e_i (y := nI (cntN (fun j => M (j + 1)) k + 0)) (nI_add _ _) ?_
          refine e_i (y := nI (cntN (fun j => M (j + 1)) (k + 1))) (n_eq (Eq.symm ((show cntN _ _ + (if M (k + 1) = 0 then 0 else 1) = _ from by rw [if_pos c_19])))) ?_
          refine lv_istore_n (lv' := [(1, .int (nI (cntN (fun j => M (j + 1)) (k + 1)))), (0, .ref ma), (2, .int (nI k))]) hx hb dX6_terms_28 rfl hl (by decide) rfl (fun ls hl => ?_)
          refine lv_iinc (v := nI (k + 1)) (lv' := [(2, .int (nI (k + 1))), (1, .int (nI (cntN (fun j => M (j + 1)) (k + 1)))), (0, .ref ma)]) hx hb dX6_terms_29 hl (k := 2) rfl (by exact nI_add _ 1) (by decide) rfl (fun ls hl => ?_)
          refine lv_goto (tgt := 4) hx hb dX6_terms_32 (by decide) ?_
          exact ih_1 (k + 1) ls (by omega) (by omega) (lv_sub hl [2, 1, 0] rfl)
        · have c_19 : ¬ (M (k + 1)) = 0 := fun h => c_19 ((lg_cmp_eq _ _).mpr h)
          refine lv_iconst (v := nI 1) hx hb dX6_terms_22 (by decide) ?_
          refine lv_goto (tgt := 27) hx hb dX6_terms_23 (by decide) ?_
          refine lv_iadd hx hb dX6_terms_27 ?_
          refine e_i (y := nI (cntN (fun j => M (j + 1)) k + 1)) (nI_add _ _) ?_
          refine e_i (y := nI (cntN (fun j => M (j + 1)) (k + 1))) (n_eq (Eq.symm ((show cntN _ _ + (if M (k + 1) = 0 then 0 else 1) = _ from by rw [if_neg c_19])))) ?_
          refine lv_istore_n (lv' := [(1, .int (nI (cntN (fun j => M (j + 1)) (k + 1)))), (0, .ref ma), (2, .int (nI k))]) hx hb dX6_terms_28 rfl hl (by decide) rfl (fun ls hl => ?_)
          refine lv_iinc (v := nI (k + 1)) (lv' := [(2, .int (nI (k + 1))), (1, .int (nI (cntN (fun j => M (j + 1)) (k + 1)))), (0, .ref ma)]) hx hb dX6_terms_29 hl (k := 2) rfl (by exact nI_add _ 1) (by decide) rfl (fun ls hl => ?_)
          refine lv_goto (tgt := 4) hx hb dX6_terms_32 (by decide) ?_
          exact ih_1 (k + 1) ls (by omega) (by omega) (lv_sub hl [2, 1, 0] rfl)
  exact loop_1 _ 0 ls (Nat.lt_succ_self _) (by omega) (lv_sub hl [2, 1, 0] rfl)
set_option maxHeartbeats 4000000 in
theorem x6_grades {l : Launch} {dC : Nat → ClassId} {dI : Nat → Nat → Nat} {dA : Nat → ClassId} {s0 : State} {b0 : Addr} (Z : Z0 l dC dI dA s0 b0) (gr : Nat) (Yg : SG (dC, dI) dA gr s0) (ma mr : Nat) (M : MV) : Met l yX6_grades (ws_ yX6_grades cX6_grades 3 (some .int)) ({ frames := 1, cells := 0, slots := 0, locals := 60 } : Room) (gP [.ref ma] s0 (fun _ => False) (fun H => va_P (dC, dI) vwCl [(ma, .inr (0, [.ref mr, .long (M 0)])), (mr, .inl (dA 1, 32, .inr (.inl (fun j => M (j + 1)))))] H)) (vp_Si (fun r => r = nI (grS M))) 0 0 (fun _ => False) := by
  refine Met.ofW (cc := cX6_grades) (maxL := 3) (ret := (some .int)) (by decide) rfl ?_
  intro p e s m args below meth c s₁ B hml hv
  obtain ⟨hav, hG, hP⟩ := hv
  have hx := B.exec
  have hb := B.bytes
  have hr := B.returns
  have hts := atoms_spec (ws := (ws_ yX6_grades cX6_grades 3 (some .int))) B.pre
  have hts : ∀ w ∈ lw_all, w.before _ s = true := fun w h => hts w (List.mem_cons_of_mem _ h)
  have hown : s.vm.findClass RX6 = some m.cls := findClass_of_methodNamed B.named
  have hlocks := B.notSynchronized
  have hK := hG.K Z
  have hS : va_S (fun _ => False) s.heap s.heap [] := va_S.rf
  have hl := lv_entry ([.ref ma]) (n := 3) (Nat.le_of_ble_eq_true rfl)
  rw [show entryFrame m args 3 = entryFrame m ([.ref ma] : List Value).toArray 3 from by rw [hav], lg_entry_eq]
  generalize (lg_sl ([.ref ma]) ++ List.replicate (3 - (lg_sl ([.ref ma])).length) Slot.unset).toArray = ls at hl ⊢
  have hl : lv_has ls 3 [(0, .ref ma)] := hl
  generalize hQe : MQ below _ _ s _ _ _ = Q
  change W p l e ({ frames := 1, cells := 0, slots := 0, locals := 60 } : Room) s m args below meth c s.heap [] 0 0 Q (F0 m 0 ls [])
  have hR0 := hG.RO Yg.2
  refine lv_iconst (v := nI 0) hx hb dX6_grades_0 (by decide) ?_
  refine lv_istore_n (lv' := [(1, .int (nI 0)), (0, .ref ma)]) hx hb dX6_grades_1 rfl hl (by decide) rfl (fun ls hl => ?_)
  refine lv_iconst (v := nI 0) hx hb dX6_grades_2 (by decide) ?_
  refine lv_istore_n (lv' := [(2, .int (nI 0)), (1, .int (nI 0)), (0, .ref ma)]) hx hb dX6_grades_3 rfl hl (by decide) rfl (fun ls hl => ?_)
  have loop_1 : ∀ (n9_1 : Nat) (k : Nat) (ls : Array Slot), 32 - k < n9_1 → (k ≤ 32) → lv_has ls 3 [(0, .ref ma), (1, .int (nI (grN M k))), (2, .int (nI k))] → W p l e ({ frames := 1, cells := 0, slots := 0, locals := 60 } : Room) s m args below meth c s.heap [] 0 0 Q (F0 m 4 ls []) := by
    intro n9_1
    induction n9_1 with
    | zero => intro k ls hm_1; exact absurd hm_1 (Nat.not_lt_zero _)
    | succ n9_1 ih_1 =>
      intro k ls hm_1 hk9 hl
      have hc9 := grN_lt M k hk9
      refine lv_iload_n hx hb dX6_grades_4 rfl (lv_at hl 2 rfl) ?_
      refine lv_bipush (v := nI 32) hx hb dX6_grades_5 (by decide) ?_
      refine lv_icmp_ge (tgt := 41) hx hb dX6_grades_7 (by decide) (fun c_7 => ?_) (fun c_7 => ?_)
      · have c_7 : 32 ≤ k := (nI_leI (a := 32) (b := k) (by omega) (by omega)).mp c_7
        obtain rfl : k = 32 := by omega
        refine lv_iload_n hx hb dX6_grades_41 rfl (lv_at hl 1 rfl) ?_
        subst hQe
        exact W.iret (v := nI (grN M 32)) hx hb hr (fun tz ht hW => ⟨_, rfl, rfl, ht⟩) hS.2.2 dX6_grades_42
      · have c_7 : ¬ 32 ≤ k := fun h => c_7 ((nI_leI (a := 32) (b := k) (by omega) (by omega)).mpr h)
        refine lv_iload_n hx hb dX6_grades_10 rfl (lv_at hl 1 rfl) ?_
        refine lv_aload_n hx hb dX6_grades_11 rfl (lv_at hl 0 rfl) ?_
        refine va_get (D := (dC, dI)) (ci := 0) (v := .ref mr) (C := RX6) (T := TX6) (N := 2) hx hb hts in_X6 hown hK hP 0 rfl rfl 0 (by decide) (hts _ q549) (fun _ h9 => h9) rfl dX6_grades_12 ?_
        refine lv_iload_n hx hb dX6_grades_15 rfl (lv_at hl 2 rfl) ?_
        refine a_lald hx hb hK hP 1 1 rfl rfl (by omega) (by omega) dX6_grades_16 ?_
        refine e_l (y := M (k + 1)) (rfl) ?_
        refine lv_lconst (v := 0) hx hb dX6_grades_17 rfl ?_
        refine W.lcmp hx hb dX6_grades_18 ?_
        refine lv_if_eq (tgt := 32) hx hb dX6_grades_19 (by decide) (fun c_19 => ?_) (fun c_19 => ?_)
        · have c_19 : (M (k + 1)) = 0 := (lg_cmp_eq _ _).mp c_19
          refine lv_iconst (v := nI 0) hx hb dX6_grades_32 (by decide) ?_
          refine lv_ior hx hb dX6_grades_33 ?_
          refine e_i (y := nI ((grN M k) ||| 0)) (n_or _ _) ?_
          refine e_i (y := nI (grN M (k + 1))) (n_eq (Eq.symm ((show grN M k ||| (if M (k + 1) = 0 then 0 else 2 ^ popc k) = _ from by rw [if_pos c_19])))) ?_
          refine lv_istore_n (lv' := [(1, .int (nI (grN M (k + 1)))), (0, .ref ma), (2, .int (nI k))]) hx hb dX6_grades_34 rfl hl (by decide) rfl (fun ls hl => ?_)
          refine lv_iinc (v := nI (k + 1)) (lv' := [(2, .int (nI (k + 1))), (1, .int (nI (grN M (k + 1)))), (0, .ref ma)]) hx hb dX6_grades_35 hl (k := 2) rfl (by exact nI_add _ 1) (by decide) rfl (fun ls hl => ?_)
          refine lv_goto (tgt := 4) hx hb dX6_grades_38 (by decide) ?_
          exact ih_1 (k + 1) ls (by omega) (by omega) (lv_sub hl [2, 1, 0] rfl)
        · have c_19 : ¬ (M (k + 1)) = 0 := fun h => c_19 ((lg_cmp_eq _ _).mpr h)
          refine lv_iconst (v := nI 1) hx hb dX6_grades_22 (by decide) ?_
          refine va_getsN (v := .ref gr) hx hb (hG.Z Z Yg.1) hS hown (((va_Nw.warmF hG.1 (va_Nw.of rfl (Z.2.1 _ q760)))).use rfl) (fun _ h9 => h9) dX6_grades_23 ?_
          refine lv_iload_n hx hb dX6_grades_26 rfl (lv_at hl 2 rfl) ?_
          refine a_iald hx hb hK (hR0.up hS) 0 0 rfl rfl (by omega) (by omega) dX6_grades_27 ?_
          refine e_i (y := nI (popc k)) (rfl) ?_
          have hp9 := popc_le5 k (by omega)
          refine lv_ishl hx hb dX6_grades_28 ?_
          refine e_i (y := nI (2 ^ (popc k))) (n_shl1 (by omega)) ?_
          refine lv_goto (tgt := 33) hx hb dX6_grades_29 (by decide) ?_
          refine lv_ior hx hb dX6_grades_33 ?_
          refine e_i (y := nI ((grN M k) ||| (2 ^ (popc k)))) (n_or _ _) ?_
          refine e_i (y := nI (grN M (k + 1))) (n_eq (Eq.symm ((show grN M k ||| (if M (k + 1) = 0 then 0 else 2 ^ popc k) = _ from by rw [if_neg c_19])))) ?_
          refine lv_istore_n (lv' := [(1, .int (nI (grN M (k + 1)))), (0, .ref ma), (2, .int (nI k))]) hx hb dX6_grades_34 rfl hl (by decide) rfl (fun ls hl => ?_)
          refine lv_iinc (v := nI (k + 1)) (lv' := [(2, .int (nI (k + 1))), (1, .int (nI (grN M (k + 1)))), (0, .ref ma)]) hx hb dX6_grades_35 hl (k := 2) rfl (by exact nI_add _ 1) (by decide) rfl (fun ls hl => ?_)
          refine lv_goto (tgt := 4) hx hb dX6_grades_38 (by decide) ?_
          exact ih_1 (k + 1) ls (by omega) (by omega) (lv_sub hl [2, 1, 0] rfl)
  exact loop_1 _ 0 ls (Nat.lt_succ_self _) (by omega) (lv_sub hl [2, 1, 0] rfl)
