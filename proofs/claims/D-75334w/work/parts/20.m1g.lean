theorem pred_eq {a b : Nat} (h : a + 1 = b) : nI a = nI b - nI 1 := by
  subst h; rw [pk_sub (by omega), Nat.add_sub_cancel]
theorem bas_hold {f : Nat → Int64} {b : Nat} (hb : b < 32) (h : Hold f 29 (numM 0)) : Hold (vp_updL f (958 + b) 1) 29 (basM b) := fun i hi => by
  by_cases h1 : i = b + 1
  · subst h1
    rw [show 33 * 29 + (b + 1) = 958 + b by omega, pk_uLs]
    show _ = if b + 1 = 0 then (1 : Int64) else if b + 1 = b + 1 then 1 else 0
    rw [if_neg (by omega), if_pos rfl]
  · rw [pk_uLn (by omega), h i hi]
    show (if i = 0 then (1 : Int64) else if i = 1 then 0 else 0) = if i = 0 then (1 : Int64) else if i = b + 1 then 1 else 0
    by_cases h0 : i = 0
    · rw [if_pos h0, if_pos h0]
    · rw [if_neg h0, if_neg h0, if_neg h1, ite_self]
theorem up_same {f : Nat → Int64} {k n : Nat} {x : Int64} (h : 33 * k ≤ n ∧ n < 33 * k + 33) : Same f (vp_updL f n x) k := fun j hj => pk_uLn (by omega)
theorem inB_pred {v : Int32} {m : Nat} (hm : m ≤ 5) (h : inB v (nI 0) (nI m - nI 1) = true) : ∃ j, j < m ∧ v = nI j := by
  rcases Nat.eq_zero_or_pos m with e | e
  · subst e
    unfold inB at h
    rw [Bool.and_eq_true, decide_eq_true_iff, decide_eq_true_iff] at h
    exact absurd (Int32.le_trans h.1 h.2) (by decide)
  · rw [pk_sub (by omega)] at h
    obtain ⟨j, h1, h2⟩ := inB_nat (by omega) h
    exact ⟨j, by omega, h2⟩
def facOk (st i : Nat) : Bool := (List.range 5).any (fun k => decide (lowB (drpN st i) = 2 ^ k) && (decide (¬ (st ^^^ 2 ^ k) / 2 ^ k &&& 1 = 1) && (decide ((st ^^^ 2 ^ k) ||| 2 ^ k = st) && decide (2 ^ k ≤ st))))
theorem facOk_t : ∀ st, st < 32 → ∀ i, i < 6 → i < popc st → facOk st i = true := by decide +kernel
theorem fac_bits (st : Nat) (h : st < 32) (i : Nat) (hi : i < 6) (hp : i < popc st) : ∃ k, k < 5 ∧ lowB (drpN st i) = 2 ^ k ∧ ¬ (st ^^^ 2 ^ k) / 2 ^ k &&& 1 = 1 ∧ (st ^^^ 2 ^ k) ||| 2 ^ k = st ∧ 2 ^ k ≤ st := by
  have h1 := facOk_t st h i hi hp
  unfold facOk at h1
  obtain ⟨k, hk, h2⟩ := List.any_eq_true.mp h1
  simp only [Bool.and_eq_true, decide_eq_true_iff] at h2
  exact ⟨k, List.mem_range.mp hk, h2.1, h2.2.1, h2.2.2.1, h2.2.2.2⟩
theorem grN_0 {M : MV} : ∀ k, (∀ j, j < k → M (j + 1) = 0) → grN M k = 0
  | 0, _ => rfl
  | k + 1, h => by
    show grN M k ||| (if M (k + 1) = 0 then 0 else 2 ^ popc k) = 0
    rw [grN_0 k (fun j hj => h j (by omega)), if_pos (h k (by omega))]; rfl
theorem grtN_max {M : MV} : ∀ k, ∀ j, j < k → absL (M (j + 1)) ≤ absL (M (grtN M k + 1))
  | 0, j, h => absurd h (Nat.not_lt_zero _)
  | k + 1, j, h => by
    show _ ≤ absL (M ((if k = 0 then 0 else if absL (M (k + 1)) ≤ absL (M (grtN M k + 1)) then grtN M k else k) + 1))
    by_cases k0 : k = 0
    · subst k0
      rw [if_pos rfl, show j = 0 by omega]; exact Int64.le_refl _
    · rw [if_neg k0]
      split
      · rename_i c
        by_cases e : j = k
        · subst e; exact c
        · exact grtN_max k j (by omega)
      · rename_i c
        by_cases e : j = k
        · subst e; exact Int64.le_refl _
        · exact Int64.le_trans (grtN_max k j (by omega)) (Int64.le_of_lt (Int64.not_le.mp c))
theorem absL_0 {v : Int64} (h : v ≠ Int64.minValue) (h0 : absL v ≤ 0) : v = 0 := by
  rw [absL_lN h] at h0
  have h1 := (pk_lLE (aN_lt h) (by decide : 0 < 2 ^ 63)).mp h0
  have h2 : v.toInt = 0 := by unfold aN at h1; omega
  exact Int64.toInt_inj.mp h2
theorem grt_ne {n : Nat} (hn : n ≤ 5) {M : MV} (hM : MSm M) (hs : MSp (2 ^ n) M) (h1 : oneB n M = true) : M (grtN M (2 ^ n) + 1) ≠ 0 := by
  intro e
  unfold oneB at h1
  rw [Bool.and_eq_true, decide_eq_true_iff] at h1
  have h0 : grS M = 0 := grN_0 32 (fun j hj => by
    by_cases hj2 : j < 2 ^ n
    · have h3 := grtN_max (M := M) (2 ^ n) j hj2
      rw [e] at h3
      exact absL_0 (ne_min_of (hM.2.2 j hj) (by decide)) h3
    · exact hs j (by omega) hj)
  rw [h0] at h1
  exact absurd h1.1 (by decide)
theorem fac_u {p q r i st ke : Nat} (hn : p + q + r ≤ 5) {M : MV} (hM : MSm M) (hs : MSp (2 ^ (p + q + r)) M) (h1 : oneB (p + q + r) M = true) (hst : grtN M (2 ^ (p + q + r)) = st) (hst8 : st < 32) (hke : ke < 5) (hkn : ke < p + q + r) (hb9 : ¬ (st ^^^ 2 ^ ke) / 2 ^ ke &&& 1 = 1) (ho9 : (st ^^^ 2 ^ ke) ||| 2 ^ ke = st) : (-100000000 ≤ (pvS (facV M (st ^^^ 2 ^ ke)) (p + q + r) (2 ^ ke)).toInt ∧ (pvS (facV M (st ^^^ 2 ^ ke)) (p + q + r) (2 ^ ke)).toInt ≤ 100000000) ∧ pvS (facV M (st ^^^ 2 ^ ke)) (p + q + r) (2 ^ ke) ≠ 0 := by
  rw [pv_at _ _ ke hkn]
  unfold facV
  rw [if_neg hb9, ho9]
  have h2 := grt_ne hn hM hs h1
  rw [hst] at h2
  have h3 := mul_b (A := 1) (B := 100000000) (ordS_sg (st ^^^ 2 ^ ke) (2 ^ ke)).b (hM.2.2 st hst8) (by decide)
  refine ⟨h3.2, fun e => h2 ?_⟩
  apply Int64.toInt_inj.mp
  have h4 : ((ordS (st ^^^ 2 ^ ke) (2 ^ ke)).toInt64 * M (st + 1)).toInt = 0 := by rw [e]; rfl
  rw [h3.1] at h4
  rcases Int.mul_eq_zero.mp h4 with c | c
  · exfalso
    unfold ordS at c
    split at c
    · exact absurd c (by decide)
    · exact absurd c (by decide)
  · rw [c]; rfl
theorem fac_mu {u : Int64} (h : -100000000 ≤ u.toInt ∧ u.toInt ≤ 100000000) (h0 : u ≠ 0) : 0 < (u * sgL u).toInt := by
  have h1 := mul_b (x := u) (y := sgL u) (A := 100000000) (B := 1) h (sgL_b u) (by decide)
  rw [h1.1]; exact sgL_pos h0
theorem facV_bd {M : MV} (hM : MSm M) {rest k : Nat} (hr : rest < 32) (hk : k < 5) : -100000000 ≤ (facV M rest k).toInt ∧ (facV M rest k).toInt ≤ 100000000 := by
  unfold facV; split
  · decide
  · exact (mul_b (A := 1) (B := 100000000) (ordS_sg _ _).b (hM.2.2 _ (or32 hr (p5 hk))) (by decide)).2
theorem fac_nm {M : MV} (hM : MSm M) {rest k : Nat} {u : Int64} (hr : rest < 32) (hk : k < 5) : facV M rest k * sgL u ≠ Int64.minValue := ne_min_of (mul_b (A := 100000000) (B := 1) (facV_bd hM hr hk) (sgL_b u) (by decide)).2 (by decide)
theorem fac_step {v : Nat → Int64} {u : Int64} {n k : Nat} (hk : k < n) : vp_updL (pvS (fun i => if i < k then v i * sgL u else v i) n) (2 ^ k) (v k * sgL u) = pvS (fun i => if i < k + 1 then v i * sgL u else v i) n := by
  have h := pv_put (v := fun i => if i < k then v i * sgL u else v i) (w := fun i => if i < k + 1 then v i * sgL u else v i) hk (fun i _ hik => by
    show (if i < k then v i * sgL u else v i) = (if i < k + 1 then v i * sgL u else v i)
    by_cases c : i < k
    · rw [if_pos c, if_pos (by omega)]
    · rw [if_neg c, if_neg (by omega)])
  rw [← h]
  show _ = vp_updL _ _ (if k < k + 1 then v k * sgL u else v k)
  rw [if_pos (Nat.lt_succ_self k)]
theorem fac_spec {n i st ke : Nat} {M : MV} {u : Int64} {res : Option MV} (hst : grtN M (2 ^ n) = st) (he : lowB (drpN st i) = 2 ^ ke) (hu : pvS (facV M (st ^^^ 2 ^ ke)) n (2 ^ ke) = u) (h : fitS (u * sgL u) (pvS (fun k => facV M (st ^^^ 2 ^ ke) k * sgL u) n) = res) : facS n M i = res := by
  unfold facS
  rw [hst]
  dsimp only
  rw [he, hu]
  exact h
set_option maxHeartbeats 4000000 in
theorem x7_liesIn {l : Launch} {dC : Nat → ClassId} {dI : Nat → Nat → Nat} {dA : Nat → ClassId} {s0 : State} {b0 : Addr} (Z : Z0 l dC dI dA s0 b0) (o : Nat → Nat) (th : Int32) (p0 q0 r0 : Nat) (mu : Int64) (zz : Nat → Int32) (fA : Nat → Int64) (k1 st g : Nat) (M : MV) (hn : p0 + q0 + r0 ≤ 5) (hk1 : k1 < 80) (hst : st < 32) (hg : g ≤ 6) (hM : Hold fA k1 M) : Met l yX7_liesIn (ws_ yX7_liesIn cX7_liesIn 10 (some .boolean)) ({ frames := 3, cells := 0, slots := 0, locals := 180 } : Room) (gP [.ref (o 0), .int (nI k1), .int (nI st), .int (nI g)] s0 (fun _ => False) (fun H => va_P (dC, dI) vwCl [(o 0, .inr (2, mFs o th p0 q0 r0 mu zz)), (o 5, .inl (dA 1, 2640, .inr (.inl fA)))] H)) (vp_Si (fun r => r = bI (lieN M st g (p0 + q0 + r0) (2 ^ (p0 + q0 + r0))))) 0 0 (fun _ => False) := by
  refine Met.ofW (cc := cX7_liesIn) (maxL := 10) (ret := (some .boolean)) (by decide) rfl ?_
  intro p e s m args below meth c s₁ B hml hv
  obtain ⟨hav, hG, hP⟩ := hv
  have hx := B.exec
  have hb := B.bytes
  have hr := B.returns
  have hts := atoms_spec (ws := (ws_ yX7_liesIn cX7_liesIn 10 (some .boolean))) B.pre
  have hts : ∀ w ∈ lw_all, w.before _ s = true := fun w h => hts w (List.mem_cons_of_mem _ h)
  have hown : s.vm.findClass RX7 = some m.cls := findClass_of_methodNamed B.named
  have hlocks := B.notSynchronized
  have hK := hG.K Z
  have hS : va_S (fun _ => False) s.heap s.heap [] := va_S.rf
  have hl := lv_entry ([.ref (o 0), .int (nI k1), .int (nI st), .int (nI g)]) (n := 10) (Nat.le_of_ble_eq_true rfl)
  rw [show entryFrame m args 10 = entryFrame m ([.ref (o 0), .int (nI k1), .int (nI st), .int (nI g)] : List Value).toArray 10 from by rw [hav], lg_entry_eq]
  generalize (lg_sl ([.ref (o 0), .int (nI k1), .int (nI st), .int (nI g)]) ++ List.replicate (10 - (lg_sl ([.ref (o 0), .int (nI k1), .int (nI st), .int (nI g)])).length) Slot.unset).toArray = ls at hl ⊢
  have hl : lv_has ls 10 [(0, .ref (o 0)), (1, .int (nI k1)), (2, .int (nI st)), (3, .int (nI g))] := hl
  generalize hQe : MQ below _ _ s _ _ _ = Q
  change W p l e ({ frames := 3, cells := 0, slots := 0, locals := 180 } : Room) s m args below meth c s.heap [] 0 0 Q (F0 m 0 ls [])
  have h5 := pow5 hn
  refine lv_iconst (v := nI 1) hx hb dX7_liesIn_0 (by decide) ?_
  refine lv_istore (lv' := [(4, .int (nI 1)), (0, .ref (o 0)), (1, .int (nI k1)), (2, .int (nI st)), (3, .int (nI g))]) hx hb dX7_liesIn_1 hl (by decide) rfl (fun ls hl => ?_)
  refine lv_iconst (v := nI 0) hx hb dX7_liesIn_3 (by decide) ?_
  refine lv_istore (lv' := [(5, .int (nI 0)), (4, .int (nI 1)), (0, .ref (o 0)), (1, .int (nI k1)), (2, .int (nI st)), (3, .int (nI g))]) hx hb dX7_liesIn_4 hl (by decide) rfl (fun ls hl => ?_)
  have loop_1 : ∀ (n9_1 : Nat) (x : Nat) (ls : Array Slot), 33 - x < n9_1 → (x ≤ 2 ^ (p0 + q0 + r0)) → lv_has ls 10 [(0, .ref (o 0)), (1, .int (nI k1)), (2, .int (nI st)), (3, .int (nI g)), (4, .int (bI (lieN M st g (p0 + q0 + r0) x))), (5, .int (nI x))] → W p l e ({ frames := 3, cells := 0, slots := 0, locals := 180 } : Room) s m args below meth c s.heap [] 0 0 Q (F0 m 6 ls []) := by
    intro n9_1
    induction n9_1 with
    | zero => intro x ls hm_1; exact absurd hm_1 (Nat.not_lt_zero _)
    | succ n9_1 ih_1 =>
      intro x ls hm_1 hx9 hl
      refine lv_iload hx hb dX7_liesIn_6 (lv_at hl 5 rfl) ?_
      refine lv_aload_n hx hb dX7_liesIn_8 rfl (lv_at hl 0 rfl) ?_
      refine s_i (va_runV (As := []) (rest := [.int (nI x)]) ⟨hx, hb, hml, hown, hts⟩ (x7_full Z o th p0 q0 r0 mu zz (by omega)) (cwV 0 hts (lw_V q2147 q2149 qs43 q107 q2150) rfl rfl rfl (by decide +kernel) ⟨Nat.le_of_ble_eq_true rfl, Nat.le_of_ble_eq_true rfl⟩) (gP_V (va_recv hK hP (ci := 2) (q0 := 0) rfl rfl) hG hS (fun q _ h => h.elim) (hP.sub (ws' := [(o 0, .inr (2, mFs o th p0 q0 r0 mu zz))]) [0] rfl)) rfl rfl hl.1 rfl (lv_room (Nat.le_of_ble_eq_true rfl)) dX7_liesIn_9 ⟨by first | decide | omega, by first | decide | omega⟩) ?_
      refine lv_icmp_gt (tgt := 141) hx hb dX7_liesIn_12 (by decide) (fun c_12 => ?_) (fun c_12 => ?_)
      · have c_12 : (2 ^ (p0 + q0 + r0) - 1) < x := (nI_ltI (a := (2 ^ (p0 + q0 + r0) - 1)) (b := x) (by omega) (by omega)).mp c_12
        obtain rfl : x = 2 ^ (p0 + q0 + r0) := by omega
        refine lv_iload hx hb dX7_liesIn_141 (lv_at hl 4 rfl) ?_
        subst hQe
        exact W.zret (v := bI (lieN M st g (p0 + q0 + r0) (2 ^ (p0 + q0 + r0)))) hx hb hr (bI_z _) (fun t ht hW => ⟨_, rfl, rfl, ht⟩) hS.2.2 dX7_liesIn_143
      · have c_12 : ¬ (2 ^ (p0 + q0 + r0) - 1) < x := fun h => c_12 ((nI_ltI (a := (2 ^ (p0 + q0 + r0) - 1)) (b := x) (by omega) (by omega)).mpr h)
        have hx8 : x < 32 := by omega
        have hp9 := popc_le5 x hx8
        refine lv_iload hx hb dX7_liesIn_15 (lv_at hl 4 rfl) ?_
        refine lv_if_eq (tgt := 141) hx hb dX7_liesIn_17 (by decide) (fun c_17 => ?_) (fun c_17 => ?_)
        · refine lv_iload hx hb dX7_liesIn_141 (lv_at hl 4 rfl) ?_
          subst hQe
          exact W.zret (v := bI (lieN M st g (p0 + q0 + r0) x)) hx hb hr (bI_z _) (fun t ht hW => ⟨_, rfl, (by rw [bI_0 c_17, lieN_mono (bI_0 c_17) hx9]), ht⟩) hS.2.2 dX7_liesIn_143
        · refine lv_iload hx hb dX7_liesIn_20 (lv_at hl 5 rfl) ?_
          refine s_i (va_runS (As := [.int (nI x)]) (rest := []) ⟨hx, hb, hml, hown, hts⟩ (x7_size Z x (by omega)) (va_cwS 1 hts (lw_S q2158 q2159 q107 q2160) rfl rfl rfl (by decide +kernel) ⟨Nat.le_of_ble_eq_true rfl, Nat.le_of_ble_eq_true rfl⟩) (gP_S hG hS (fun q _ h => h.elim) trivial) rfl rfl hl.1 rfl (lv_room (Nat.le_of_ble_eq_true rfl)) dX7_liesIn_22 ⟨by first | decide | omega, by first | decide | omega⟩) ?_
          refine lv_iload_n hx hb dX7_liesIn_25 rfl (lv_at hl 3 rfl) ?_
          refine lv_iconst (v := nI 1) hx hb dX7_liesIn_26 (by decide) ?_
          refine lv_iadd hx hb dX7_liesIn_27 ?_
          refine e_i (y := nI (g + 1)) (nI_add _ _) ?_
          refine lv_icmp_eq (tgt := 34) hx hb dX7_liesIn_28 (by decide) (fun c_28 => ?_) (fun c_28 => ?_)
          · have c_28 : (popc x) = (g + 1) := (nI_eq (a := (popc x)) (b := (g + 1)) (by omega) (by omega)).mp c_28
            refine lv_lconst (v := 0) hx hb dX7_liesIn_34 rfl ?_
            refine lv_lstore (lv' := [(6, .long 0), (0, .ref (o 0)), (1, .int (nI k1)), (2, .int (nI st)), (3, .int (nI g)), (4, .int (bI (lieN M st g (p0 + q0 + r0) x))), (5, .int (nI x))]) hx hb dX7_liesIn_35 hl (by decide) rfl (fun ls hl => ?_)
            refine lv_iconst (v := nI 0) hx hb dX7_liesIn_37 (by decide) ?_
            refine lv_istore (lv' := [(8, .int (nI 0)), (6, .long 0), (0, .ref (o 0)), (1, .int (nI k1)), (2, .int (nI st)), (3, .int (nI g)), (4, .int (bI (lieN M st g (p0 + q0 + r0) x))), (5, .int (nI x))]) hx hb dX7_liesIn_38 hl (by decide) rfl (fun ls hl => ?_)
            have loop_2 : ∀ (n9_2 : Nat) (k : Nat) (ls : Array Slot), p0 + q0 + r0 - k < n9_2 → (k ≤ p0 + q0 + r0) → lv_has ls 10 [(0, .ref (o 0)), (1, .int (nI k1)), (2, .int (nI st)), (3, .int (nI g)), (4, .int (bI (lieN M st g (p0 + q0 + r0) x))), (5, .int (nI x)), (6, .long (sumL M st x k)), (8, .int (nI k))] → W p l e ({ frames := 3, cells := 0, slots := 0, locals := 180 } : Room) s m args below meth c s.heap [] 0 0 Q (F0 m 40 ls []) := by
              intro n9_2
              induction n9_2 with
              | zero => intro k ls hm_2; exact absurd hm_2 (Nat.not_lt_zero _)
              | succ n9_2 ih_2 =>
                intro k ls hm_2 hk9 hl
                refine lv_iload hx hb dX7_liesIn_40 (lv_at hl 7 rfl) ?_
                refine lv_aload_n hx hb dX7_liesIn_42 rfl (lv_at hl 0 rfl) ?_
                refine s_i (va_runV (As := []) (rest := [.int (nI k)]) ⟨hx, hb, hml, hown, hts⟩ (x7_n Z o th p0 q0 r0 mu zz) (cwV 0 hts (lw_V q2151 q2153 qs44 q107 q2154) rfl rfl rfl (by decide +kernel) ⟨Nat.le_of_ble_eq_true rfl, Nat.le_of_ble_eq_true rfl⟩) (gP_V (va_recv hK hP (ci := 2) (q0 := 0) rfl rfl) hG hS (fun q _ h => h.elim) (hP.sub (ws' := [(o 0, .inr (2, mFs o th p0 q0 r0 mu zz))]) [0] rfl)) rfl rfl hl.1 rfl (lv_room (Nat.le_of_ble_eq_true rfl)) dX7_liesIn_43 ⟨by first | decide | omega, by first | decide | omega⟩) ?_
                refine lv_icmp_ge (tgt := 121) hx hb dX7_liesIn_46 (by decide) (fun c_46 => ?_) (fun c_46 => ?_)
                · have c_46 : (p0 + q0 + r0) ≤ k := (nI_leI (a := (p0 + q0 + r0)) (b := k) (by omega) (by omega)).mp c_46
                  obtain rfl : k = p0 + q0 + r0 := by omega
                  refine lv_lload hx hb dX7_liesIn_121 (lv_at hl 6 rfl) ?_
                  refine lv_lconst (v := 0) hx hb dX7_liesIn_123 rfl ?_
                  refine W.lcmp hx hb dX7_liesIn_124 ?_
                  refine lv_if_ne (tgt := 132) hx hb dX7_liesIn_125 (by decide) (fun c_125 => ?_) (fun c_125 => ?_)
                  · have c_125 : ¬ (sumL M st x (p0 + q0 + r0)) = 0 := fun h => c_125 ((lg_cmp_eq _ _).mpr h)
                    refine lv_iconst (v := nI 0) hx hb dX7_liesIn_132 (by decide) ?_
                    refine e_i (y := bI (lieN M st g (p0 + q0 + r0) (x + 1))) ((by show _ = bI (if popc x = g + 1 then lieN M st g (p0 + q0 + r0) x && decide (sumL M st x (p0 + q0 + r0) = 0) else lieN M st g (p0 + q0 + r0) x); rw [if_pos c_28, bI_1 c_17, Bool.true_and, decide_eq_false c_125]; rfl)) ?_
                    refine lv_istore (lv' := [(4, .int (bI (lieN M st g (p0 + q0 + r0) (x + 1)))), (0, .ref (o 0)), (1, .int (nI k1)), (2, .int (nI st)), (3, .int (nI g)), (5, .int (nI x)), (6, .long (sumL M st x (p0 + q0 + r0))), (8, .int (nI (p0 + q0 + r0)))]) hx hb dX7_liesIn_133 hl (by decide) rfl (fun ls hl => ?_)
                    refine lv_iinc (v := nI (x + 1)) (lv' := [(5, .int (nI (x + 1))), (4, .int (bI (lieN M st g (p0 + q0 + r0) (x + 1)))), (0, .ref (o 0)), (1, .int (nI k1)), (2, .int (nI st)), (3, .int (nI g)), (6, .long (sumL M st x (p0 + q0 + r0))), (8, .int (nI (p0 + q0 + r0)))]) hx hb dX7_liesIn_135 hl (k := 5) rfl (by exact nI_add _ 1) (by decide) rfl (fun ls hl => ?_)
                    refine lv_goto (tgt := 6) hx hb dX7_liesIn_138 (by decide) ?_
                    exact ih_1 (x + 1) ls (by omega) (by omega) (lv_sub hl [2, 3, 4, 5, 1, 0] rfl)
                  · have c_125 : (sumL M st x (p0 + q0 + r0)) = 0 := (lg_cmp_eq _ _).mp c_125
                    refine lv_iconst (v := nI 1) hx hb dX7_liesIn_128 (by decide) ?_
                    refine lv_goto (tgt := 133) hx hb dX7_liesIn_129 (by decide) ?_
                    refine e_i (y := bI (lieN M st g (p0 + q0 + r0) (x + 1))) ((by show _ = bI (if popc x = g + 1 then lieN M st g (p0 + q0 + r0) x && decide (sumL M st x (p0 + q0 + r0) = 0) else lieN M st g (p0 + q0 + r0) x); rw [if_pos c_28, bI_1 c_17, Bool.true_and, decide_eq_true c_125]; rfl)) ?_
                    refine lv_istore (lv' := [(4, .int (bI (lieN M st g (p0 + q0 + r0) (x + 1)))), (0, .ref (o 0)), (1, .int (nI k1)), (2, .int (nI st)), (3, .int (nI g)), (5, .int (nI x)), (6, .long (sumL M st x (p0 + q0 + r0))), (8, .int (nI (p0 + q0 + r0)))]) hx hb dX7_liesIn_133 hl (by decide) rfl (fun ls hl => ?_)
                    refine lv_iinc (v := nI (x + 1)) (lv' := [(5, .int (nI (x + 1))), (4, .int (bI (lieN M st g (p0 + q0 + r0) (x + 1)))), (0, .ref (o 0)), (1, .int (nI k1)), (2, .int (nI st)), (3, .int (nI g)), (6, .long (sumL M st x (p0 + q0 + r0))), (8, .int (nI (p0 + q0 + r0)))]) hx hb dX7_liesIn_135 hl (k := 5) rfl (by exact nI_add _ 1) (by decide) rfl (fun ls hl => ?_)
                    refine lv_goto (tgt := 6) hx hb dX7_liesIn_138 (by decide) ?_
                    exact ih_1 (x + 1) ls (by omega) (by omega) (lv_sub hl [2, 3, 4, 5, 1, 0] rfl)
                · have c_46 : ¬ (p0 + q0 + r0) ≤ k := fun h => c_46 ((nI_leI (a := (p0 + q0 + r0)) (b := k) (by omega) (by omega)).mpr h)
                  have he9 : 2 ^ k < 32 := p5 (by omega)
                  have ho9 := or32 hst he9
                  have hy9 := xor32 hx8 he9
                  have hz9 : x &&& 2 ^ k < 32 := and32 _ hx8
                  have hz8 : st &&& 2 ^ k < 32 := and32 _ hst
                  refine lv_iconst (v := nI 1) hx hb dX7_liesIn_49 (by decide) ?_
                  refine lv_iload hx hb dX7_liesIn_50 (lv_at hl 7 rfl) ?_
                  refine lv_ishl hx hb dX7_liesIn_52 ?_
                  refine e_i (y := nI (2 ^ k)) (n_shl1 (by omega)) ?_
                  refine lv_istore (lv' := [(9, .int (nI (2 ^ k))), (0, .ref (o 0)), (1, .int (nI k1)), (2, .int (nI st)), (3, .int (nI g)), (4, .int (bI (lieN M st g (p0 + q0 + r0) x))), (5, .int (nI x)), (6, .long (sumL M st x k)), (8, .int (nI k))]) hx hb dX7_liesIn_53 hl (by decide) rfl (fun ls hl => ?_)
                  refine lv_iload hx hb dX7_liesIn_55 (lv_at hl 6 rfl) ?_
                  refine lv_iload hx hb dX7_liesIn_57 (lv_at hl 0 rfl) ?_
                  refine lv_iand hx hb dX7_liesIn_59 ?_
                  refine e_i (y := nI (x &&& (2 ^ k))) (n_and _ _) ?_
                  refine lv_if_eq (tgt := 115) hx hb dX7_liesIn_60 (by decide) (fun c_60 => ?_) (fun c_60 => ?_)
                  · have c_60 : (x &&& (2 ^ k)) = 0 := (nI_eq (a := (x &&& (2 ^ k))) (b := 0) (by omega) (by omega)).mp c_60
                    have hl : lv_has ls 10 [(9, .int (nI (2 ^ k))), (0, .ref (o 0)), (1, .int (nI k1)), (2, .int (nI st)), (3, .int (nI g)), (4, .int (bI (lieN M st g (p0 + q0 + r0) x))), (5, .int (nI x)), (6, .long (sumL M st x (k + 1))), (8, .int (nI k))] := by rw [show sumL M st x (k + 1) = sumL M st x k from (show (if x &&& 2 ^ k ≠ 0 ∧ st &&& 2 ^ k = 0 then sumL M st x k + (ordS st (2 ^ k)).toInt64 * M ((st ||| 2 ^ k) + 1) * (ordS (2 ^ k) (x ^^^ 2 ^ k)).toInt64 * M ((x ^^^ 2 ^ k) + 1) else sumL M st x k) = _ from by rw [if_neg (fun h => h.1 c_60)])]; exact hl
                    refine lv_iinc (v := nI (k + 1)) (lv' := [(8, .int (nI (k + 1))), (9, .int (nI (2 ^ k))), (0, .ref (o 0)), (1, .int (nI k1)), (2, .int (nI st)), (3, .int (nI g)), (4, .int (bI (lieN M st g (p0 + q0 + r0) x))), (5, .int (nI x)), (6, .long (sumL M st x (k + 1)))]) hx hb dX7_liesIn_115 hl (k := 8) rfl (by exact nI_add _ 1) (by decide) rfl (fun ls hl => ?_)
                    refine lv_goto (tgt := 40) hx hb dX7_liesIn_118 (by decide) ?_
                    exact ih_2 (k + 1) ls (by omega) (by omega) (lv_sub hl [2, 3, 4, 5, 6, 7, 8, 0] rfl)
                  · have c_60 : ¬ (x &&& (2 ^ k)) = 0 := fun h => c_60 ((nI_eq (a := (x &&& (2 ^ k))) (b := 0) (by omega) (by omega)).mpr h)
                    refine lv_iload_n hx hb dX7_liesIn_63 rfl (lv_at hl 3 rfl) ?_
                    refine lv_iload hx hb dX7_liesIn_64 (lv_at hl 0 rfl) ?_
                    refine lv_iand hx hb dX7_liesIn_66 ?_
                    refine e_i (y := nI (st &&& (2 ^ k))) (n_and _ _) ?_
                    refine lv_if_ne (tgt := 115) hx hb dX7_liesIn_67 (by decide) (fun c_67 => ?_) (fun c_67 => ?_)
                    · have c_67 : ¬ (st &&& (2 ^ k)) = 0 := fun h => c_67 ((nI_eq (a := (st &&& (2 ^ k))) (b := 0) (by omega) (by omega)).mpr h)
                      have hl : lv_has ls 10 [(9, .int (nI (2 ^ k))), (0, .ref (o 0)), (1, .int (nI k1)), (2, .int (nI st)), (3, .int (nI g)), (4, .int (bI (lieN M st g (p0 + q0 + r0) x))), (5, .int (nI x)), (6, .long (sumL M st x (k + 1))), (8, .int (nI k))] := by rw [show sumL M st x (k + 1) = sumL M st x k from (show (if x &&& 2 ^ k ≠ 0 ∧ st &&& 2 ^ k = 0 then sumL M st x k + (ordS st (2 ^ k)).toInt64 * M ((st ||| 2 ^ k) + 1) * (ordS (2 ^ k) (x ^^^ 2 ^ k)).toInt64 * M ((x ^^^ 2 ^ k) + 1) else sumL M st x k) = _ from by rw [if_neg (fun h => c_67 h.2)])]; exact hl
                      refine lv_iinc (v := nI (k + 1)) (lv' := [(8, .int (nI (k + 1))), (9, .int (nI (2 ^ k))), (0, .ref (o 0)), (1, .int (nI k1)), (2, .int (nI st)), (3, .int (nI g)), (4, .int (bI (lieN M st g (p0 + q0 + r0) x))), (5, .int (nI x)), (6, .long (sumL M st x (k + 1)))]) hx hb dX7_liesIn_115 hl (k := 8) rfl (by exact nI_add _ 1) (by decide) rfl (fun ls hl => ?_)
                      refine lv_goto (tgt := 40) hx hb dX7_liesIn_118 (by decide) ?_
                      exact ih_2 (k + 1) ls (by omega) (by omega) (lv_sub hl [2, 3, 4, 5, 6, 7, 8, 0] rfl)
                    · have c_67 : (st &&& (2 ^ k)) = 0 := (nI_eq (a := (st &&& (2 ^ k))) (b := 0) (by omega) (by omega)).mp c_67
                      refine lv_lload hx hb dX7_liesIn_70 (lv_at hl 7 rfl) ?_
                      refine lv_iload_n hx hb dX7_liesIn_72 rfl (lv_at hl 3 rfl) ?_
                      refine lv_iload hx hb dX7_liesIn_73 (lv_at hl 0 rfl) ?_
                      refine s_i (va_runS (As := [.int (nI st), .int (nI (2 ^ k))]) (rest := [.long (sumL M st x k)]) ⟨hx, hb, hml, hown, hts⟩ (x7_order Z st (2 ^ k) (by omega) (by omega)) (va_cwS 2 hts (lw_S q2155 q2156 q107 q2157) rfl rfl rfl (by decide +kernel) ⟨Nat.le_of_ble_eq_true rfl, Nat.le_of_ble_eq_true rfl⟩) (gP_S hG hS (fun q _ h => h.elim) trivial) rfl rfl hl.1 rfl (lv_room (Nat.le_of_ble_eq_true rfl)) dX7_liesIn_75 ⟨by first | decide | omega, by first | decide | omega⟩) ?_
                      refine lv_i2l (v := (ordS st (2 ^ k)).toInt64) hx hb dX7_liesIn_78 rfl ?_
                      refine lv_aload_n hx hb dX7_liesIn_79 rfl (lv_at hl 1 rfl) ?_
                      refine lv_iload_n hx hb dX7_liesIn_80 rfl (lv_at hl 2 rfl) ?_
                      refine lv_iload_n hx hb dX7_liesIn_81 rfl (lv_at hl 3 rfl) ?_
                      refine lv_iload hx hb dX7_liesIn_82 (lv_at hl 0 rfl) ?_
                      refine lv_ior hx hb dX7_liesIn_84 ?_
                      refine e_i (y := nI (st ||| (2 ^ k))) (n_or _ _) ?_
                      refine s_l (va_runV (As := [.int (nI k1), .int (nI (st ||| (2 ^ k)))]) (rest := [.long ((ordS st (2 ^ k)).toInt64), .long (sumL M st x k)]) ⟨hx, hb, hml, hown, hts⟩ (x7_of Z o th p0 q0 r0 mu zz fA k1 (st ||| (2 ^ k)) (by omega)) (cwV 2 hts (lw_V q2119 q2121 qs38 q107 q2122) rfl rfl rfl (by decide +kernel) ⟨Nat.le_of_ble_eq_true rfl, Nat.le_of_ble_eq_true rfl⟩) (gP_V (va_recv hK hP (ci := 2) (q0 := 0) rfl rfl) hG hS (fun q _ h => h.elim) (hP.sub (ws' := [(o 0, .inr (2, mFs o th p0 q0 r0 mu zz)), (o 5, .inl (dA 1, 2640, .inr (.inl fA)))]) [0, 1] rfl)) rfl rfl hl.1 rfl (lv_room (Nat.le_of_ble_eq_true rfl)) dX7_liesIn_85 ⟨by first | decide | omega, by first | decide | omega⟩) ?_
                      refine e_l (y := M ((st ||| (2 ^ k)) + 1)) (hold_at hM (i := (st ||| (2 ^ k)) + 1) (by omega) (by omega)) ?_
                      refine lv_lmul hx hb dX7_liesIn_88 ?_
                      refine lv_iload hx hb dX7_liesIn_89 (lv_at hl 0 rfl) ?_
                      refine lv_iload hx hb dX7_liesIn_91 (lv_at hl 6 rfl) ?_
                      refine lv_iload hx hb dX7_liesIn_93 (lv_at hl 0 rfl) ?_
                      refine lv_ixor hx hb dX7_liesIn_95 ?_
                      refine e_i (y := nI (x ^^^ (2 ^ k))) (n_xor _ _) ?_
                      refine s_i (va_runS (As := [.int (nI (2 ^ k)), .int (nI (x ^^^ (2 ^ k)))]) (rest := [.long (((ordS st (2 ^ k)).toInt64) * (M ((st ||| (2 ^ k)) + 1))), .long (sumL M st x k)]) ⟨hx, hb, hml, hown, hts⟩ (x7_order Z (2 ^ k) (x ^^^ (2 ^ k)) (by omega) (by omega)) (va_cwS 2 hts (lw_S q2155 q2156 q107 q2157) rfl rfl rfl (by decide +kernel) ⟨Nat.le_of_ble_eq_true rfl, Nat.le_of_ble_eq_true rfl⟩) (gP_S hG hS (fun q _ h => h.elim) trivial) rfl rfl hl.1 rfl (lv_room (Nat.le_of_ble_eq_true rfl)) dX7_liesIn_96 ⟨by first | decide | omega, by first | decide | omega⟩) ?_
                      refine lv_i2l (v := (ordS (2 ^ k) (x ^^^ (2 ^ k))).toInt64) hx hb dX7_liesIn_99 rfl ?_
                      refine lv_lmul hx hb dX7_liesIn_100 ?_
                      refine lv_aload_n hx hb dX7_liesIn_101 rfl (lv_at hl 1 rfl) ?_
                      refine lv_iload_n hx hb dX7_liesIn_102 rfl (lv_at hl 2 rfl) ?_
                      refine lv_iload hx hb dX7_liesIn_103 (lv_at hl 6 rfl) ?_
                      refine lv_iload hx hb dX7_liesIn_105 (lv_at hl 0 rfl) ?_
                      refine lv_ixor hx hb dX7_liesIn_107 ?_
                      refine e_i (y := nI (x ^^^ (2 ^ k))) (n_xor _ _) ?_
                      refine s_l (va_runV (As := [.int (nI k1), .int (nI (x ^^^ (2 ^ k)))]) (rest := [.long ((((ordS st (2 ^ k)).toInt64) * (M ((st ||| (2 ^ k)) + 1))) * ((ordS (2 ^ k) (x ^^^ (2 ^ k))).toInt64)), .long (sumL M st x k)]) ⟨hx, hb, hml, hown, hts⟩ (x7_of Z o th p0 q0 r0 mu zz fA k1 (x ^^^ (2 ^ k)) (by omega)) (cwV 2 hts (lw_V q2119 q2121 qs38 q107 q2122) rfl rfl rfl (by decide +kernel) ⟨Nat.le_of_ble_eq_true rfl, Nat.le_of_ble_eq_true rfl⟩) (gP_V (va_recv hK hP (ci := 2) (q0 := 0) rfl rfl) hG hS (fun q _ h => h.elim) (hP.sub (ws' := [(o 0, .inr (2, mFs o th p0 q0 r0 mu zz)), (o 5, .inl (dA 1, 2640, .inr (.inl fA)))]) [0, 1] rfl)) rfl rfl hl.1 rfl (lv_room (Nat.le_of_ble_eq_true rfl)) dX7_liesIn_108 ⟨by first | decide | omega, by first | decide | omega⟩) ?_
                      refine e_l (y := M ((x ^^^ (2 ^ k)) + 1)) (hold_at hM (i := (x ^^^ (2 ^ k)) + 1) (by omega) (by omega)) ?_
                      refine lv_lmul hx hb dX7_liesIn_111 ?_
                      refine lv_ladd hx hb dX7_liesIn_112 ?_
                      refine lv_lstore (lv' := [(6, .long ((sumL M st x k) + (((((ordS st (2 ^ k)).toInt64) * (M ((st ||| (2 ^ k)) + 1))) * ((ordS (2 ^ k) (x ^^^ (2 ^ k))).toInt64)) * (M ((x ^^^ (2 ^ k)) + 1))))), (9, .int (nI (2 ^ k))), (0, .ref (o 0)), (1, .int (nI k1)), (2, .int (nI st)), (3, .int (nI g)), (4, .int (bI (lieN M st g (p0 + q0 + r0) x))), (5, .int (nI x)), (8, .int (nI k))]) hx hb dX7_liesIn_113 hl (by decide) rfl (fun ls hl => ?_)
                      have hl : lv_has ls 10 [(6, .long (sumL M st x (k + 1))), (9, .int (nI (2 ^ k))), (0, .ref (o 0)), (1, .int (nI k1)), (2, .int (nI st)), (3, .int (nI g)), (4, .int (bI (lieN M st g (p0 + q0 + r0) x))), (5, .int (nI x)), (8, .int (nI k))] := by rw [show sumL M st x (k + 1) = (sumL M st x k) + (((((ordS st (2 ^ k)).toInt64) * (M ((st ||| (2 ^ k)) + 1))) * ((ordS (2 ^ k) (x ^^^ (2 ^ k))).toInt64)) * (M ((x ^^^ (2 ^ k)) + 1))) from (show (if x &&& 2 ^ k ≠ 0 ∧ st &&& 2 ^ k = 0 then sumL M st x k + (ordS st (2 ^ k)).toInt64 * M ((st ||| 2 ^ k) + 1) * (ordS (2 ^ k) (x ^^^ 2 ^ k)).toInt64 * M ((x ^^^ 2 ^ k) + 1) else sumL M st x k) = _ from by rw [if_pos ⟨c_60, c_67⟩])]; exact hl
                      refine lv_iinc (v := nI (k + 1)) (lv' := [(8, .int (nI (k + 1))), (6, .long (sumL M st x (k + 1))), (9, .int (nI (2 ^ k))), (0, .ref (o 0)), (1, .int (nI k1)), (2, .int (nI st)), (3, .int (nI g)), (4, .int (bI (lieN M st g (p0 + q0 + r0) x))), (5, .int (nI x))]) hx hb dX7_liesIn_115 hl (k := 8) rfl (by exact nI_add _ 1) (by decide) rfl (fun ls hl => ?_)
                      refine lv_goto (tgt := 40) hx hb dX7_liesIn_118 (by decide) ?_
                      exact ih_2 (k + 1) ls (by omega) (by omega) (lv_sub hl [3, 4, 5, 6, 7, 8, 1, 0] rfl)
            exact loop_2 _ 0 ls (Nat.lt_succ_self _) (by omega) (lv_sub hl [2, 3, 4, 5, 6, 7, 1, 0] rfl)
          · have c_28 : ¬ (popc x) = (g + 1) := fun h => c_28 ((nI_eq (a := (popc x)) (b := (g + 1)) (by omega) (by omega)).mpr h)
            have hl : lv_has ls 10 [(0, .ref (o 0)), (1, .int (nI k1)), (2, .int (nI st)), (3, .int (nI g)), (4, .int (bI (lieN M st g (p0 + q0 + r0) (x + 1)))), (5, .int (nI x))] := by rw [show bI (lieN M st g (p0 + q0 + r0) (x + 1)) = bI (lieN M st g (p0 + q0 + r0) x) from (show bI (if popc x = g + 1 then lieN M st g (p0 + q0 + r0) x && decide (sumL M st x (p0 + q0 + r0) = 0) else lieN M st g (p0 + q0 + r0) x) = _ from by rw [if_neg c_28])]; exact hl
            refine lv_goto (tgt := 135) hx hb dX7_liesIn_31 (by decide) ?_
            refine lv_iinc (v := nI (x + 1)) (lv' := [(5, .int (nI (x + 1))), (0, .ref (o 0)), (1, .int (nI k1)), (2, .int (nI st)), (3, .int (nI g)), (4, .int (bI (lieN M st g (p0 + q0 + r0) (x + 1))))]) hx hb dX7_liesIn_135 hl (k := 5) rfl (by exact nI_add _ 1) (by decide) rfl (fun ls hl => ?_)
            refine lv_goto (tgt := 6) hx hb dX7_liesIn_138 (by decide) ?_
            exact ih_1 (x + 1) ls (by omega) (by omega) (lv_sub hl [1, 2, 3, 4, 5, 0] rfl)
  exact loop_1 _ 0 ls (Nat.lt_succ_self _) (by omega) (lv_sub hl [2, 3, 4, 5, 1, 0] rfl)
set_option maxHeartbeats 4000000 in
theorem x7_isOneBlade {l : Launch} {dC : Nat → ClassId} {dI : Nat → Nat → Nat} {dA : Nat → ClassId} {s0 : State} {b0 : Addr} (Z : Z0 l dC dI dA s0 b0) (o : Nat → Nat) (th : Int32) (p0 q0 r0 : Nat) (mu : Int64) (zz : Nat → Int32) (fA : Nat → Int64) (k1 : Nat) (M : MV) (hn : p0 + q0 + r0 ≤ 5) (hk1 : k1 < 80) (hM : Hold fA k1 M) : Met l yX7_isOneBlade (ws_ yX7_isOneBlade cX7_isOneBlade 6 (some .boolean)) ({ frames := 4, cells := 0, slots := 0, locals := 240 } : Room) (gP [.ref (o 0), .int (nI k1)] s0 (fun _ => False) (fun H => va_P (dC, dI) vwCl [(o 0, .inr (2, mFs o th p0 q0 r0 mu zz)), (o 5, .inl (dA 1, 2640, .inr (.inl fA)))] H)) (vp_Si (fun r => r = bI (oneB (p0 + q0 + r0) M))) 0 0 (fun _ => False) := by
  refine Met.ofW (cc := cX7_isOneBlade) (maxL := 6) (ret := (some .boolean)) (by decide) rfl ?_
  intro p e s m args below meth c s₁ B hml hv
  obtain ⟨hav, hG, hP⟩ := hv
  have hx := B.exec
  have hb := B.bytes
  have hr := B.returns
  have hts := atoms_spec (ws := (ws_ yX7_isOneBlade cX7_isOneBlade 6 (some .boolean))) B.pre
  have hts : ∀ w ∈ lw_all, w.before _ s = true := fun w h => hts w (List.mem_cons_of_mem _ h)
  have hown : s.vm.findClass RX7 = some m.cls := findClass_of_methodNamed B.named
  have hlocks := B.notSynchronized
  have hK := hG.K Z
  have hS : va_S (fun _ => False) s.heap s.heap [] := va_S.rf
  have hl := lv_entry ([.ref (o 0), .int (nI k1)]) (n := 6) (Nat.le_of_ble_eq_true rfl)
  rw [show entryFrame m args 6 = entryFrame m ([.ref (o 0), .int (nI k1)] : List Value).toArray 6 from by rw [hav], lg_entry_eq]
  generalize (lg_sl ([.ref (o 0), .int (nI k1)]) ++ List.replicate (6 - (lg_sl ([.ref (o 0), .int (nI k1)])).length) Slot.unset).toArray = ls at hl ⊢
  have hl : lv_has ls 6 [(0, .ref (o 0)), (1, .int (nI k1))] := hl
  generalize hQe : MQ below _ _ s _ _ _ = Q
  change W p l e ({ frames := 4, cells := 0, slots := 0, locals := 240 } : Room) s m args below meth c s.heap [] 0 0 Q (F0 m 0 ls [])
  have h5 := pow5 hn
  have hg9 := grN_lt M 32 (by decide)
  have hg8 : popc (grS M) ≤ 6 := popc_le _ hg9
  refine lv_aload_n hx hb dX7_isOneBlade_0 rfl (lv_at hl 0 rfl) ?_
  refine lv_iload_n hx hb dX7_isOneBlade_1 rfl (lv_at hl 1 rfl) ?_
  refine s_i (va_runV (As := [.int (nI k1)]) (rest := []) ⟨hx, hb, hml, hown, hts⟩ (x7_gradesOf Z o th p0 q0 r0 mu zz fA k1 M (by omega) hM) (cwV 1 hts (lw_V q2273 q2275 qs59 q107 q2276) rfl rfl rfl (by decide +kernel) ⟨Nat.le_of_ble_eq_true rfl, Nat.le_of_ble_eq_true rfl⟩) (gP_V (va_recv hK hP (ci := 2) (q0 := 0) rfl rfl) hG hS (fun q _ h => h.elim) (hP.sub (ws' := [(o 0, .inr (2, mFs o th p0 q0 r0 mu zz)), (o 5, .inl (dA 1, 2640, .inr (.inl fA)))]) [0, 1] rfl)) rfl rfl hl.1 rfl (lv_room (Nat.le_of_ble_eq_true rfl)) dX7_isOneBlade_2 ⟨by first | decide | omega, by first | decide | omega⟩) ?_
  refine lv_istore_n (lv' := [(2, .int (nI (grS M))), (0, .ref (o 0)), (1, .int (nI k1))]) hx hb dX7_isOneBlade_5 rfl hl (by decide) rfl (fun ls hl => ?_)
  refine lv_iload_n hx hb dX7_isOneBlade_6 rfl (lv_at hl 0 rfl) ?_
  refine s_i (va_runS (As := [.int (nI (grS M))]) (rest := []) ⟨hx, hb, hml, hown, hts⟩ (x7_size Z (grS M) hg9) (va_cwS 1 hts (lw_S q2158 q2159 q107 q2160) rfl rfl rfl (by decide +kernel) ⟨Nat.le_of_ble_eq_true rfl, Nat.le_of_ble_eq_true rfl⟩) (gP_S hG hS (fun q _ h => h.elim) trivial) rfl rfl hl.1 rfl (lv_room (Nat.le_of_ble_eq_true rfl)) dX7_isOneBlade_7 ⟨by first | decide | omega, by first | decide | omega⟩) ?_
  refine lv_iconst (v := nI 1) hx hb dX7_isOneBlade_10 (by decide) ?_
  refine lv_icmp_eq (tgt := 16) hx hb dX7_isOneBlade_11 (by decide) (fun c_11 => ?_) (fun c_11 => ?_)
  · have c_11 : (popc (grS M)) = 1 := (nI_eq (a := (popc (grS M))) (b := 1) (by omega) (by omega)).mp c_11
    have hg1 : 1 ≤ grS M := by rcases Nat.eq_zero_or_pos (grS M) with e | e; (rw [e] at c_11; exact absurd c_11 (by decide)); exact e
    have hp7 : popc (grS M - 1) ≤ 6 := popc_le _ (by have : grS M < 64 := hg9; omega)
    refine lv_iload_n hx hb dX7_isOneBlade_16 rfl (lv_at hl 0 rfl) ?_
    refine lv_iconst (v := nI 1) hx hb dX7_isOneBlade_17 (by decide) ?_
    refine lv_isub hx hb dX7_isOneBlade_18 ?_
    refine e_i (y := nI (grS M - 1)) (pk_sub hg1) ?_
    refine s_i (va_runS (As := [.int (nI (grS M - 1))]) (rest := []) ⟨hx, hb, hml, hown, hts⟩ (x7_size Z (grS M - 1) (by have : grS M < 64 := hg9; omega)) (va_cwS 1 hts (lw_S q2158 q2159 q107 q2160) rfl rfl rfl (by decide +kernel) ⟨Nat.le_of_ble_eq_true rfl, Nat.le_of_ble_eq_true rfl⟩) (gP_S hG hS (fun q _ h => h.elim) trivial) rfl rfl hl.1 rfl (lv_room (Nat.le_of_ble_eq_true rfl)) dX7_isOneBlade_19 ⟨by first | decide | omega, by first | decide | omega⟩) ?_
    refine lv_istore_n (lv' := [(3, .int (nI (popc (grS M - 1)))), (2, .int (nI (grS M))), (0, .ref (o 0)), (1, .int (nI k1))]) hx hb dX7_isOneBlade_22 rfl hl (by decide) rfl (fun ls hl => ?_)
    refine lv_iconst (v := nI 1) hx hb dX7_isOneBlade_23 (by decide) ?_
    refine lv_istore (lv' := [(4, .int (nI 1)), (3, .int (nI (popc (grS M - 1)))), (2, .int (nI (grS M))), (0, .ref (o 0)), (1, .int (nI k1))]) hx hb dX7_isOneBlade_24 hl (by decide) rfl (fun ls hl => ?_)
    refine lv_iconst (v := nI 0) hx hb dX7_isOneBlade_26 (by decide) ?_
    refine lv_istore (lv' := [(5, .int (nI 0)), (4, .int (nI 1)), (3, .int (nI (popc (grS M - 1)))), (2, .int (nI (grS M))), (0, .ref (o 0)), (1, .int (nI k1))]) hx hb dX7_isOneBlade_27 hl (by decide) rfl (fun ls hl => ?_)
    have loop_1 : ∀ (n9_1 : Nat) (b : Nat) (ls : Array Slot), 33 - b < n9_1 → (b ≤ 2 ^ (p0 + q0 + r0)) → lv_has ls 6 [(0, .ref (o 0)), (1, .int (nI k1)), (2, .int (nI (grS M))), (3, .int (nI (popc (grS M - 1)))), (4, .int (bI (oneN M (p0 + q0 + r0) (popc (grS M - 1)) b))), (5, .int (nI b))] → W p l e ({ frames := 4, cells := 0, slots := 0, locals := 240 } : Room) s m args below meth c s.heap [] 0 0 Q (F0 m 29 ls []) := by
      intro n9_1
      induction n9_1 with
      | zero => intro b ls hm_1; exact absurd hm_1 (Nat.not_lt_zero _)
      | succ n9_1 ih_1 =>
        intro b ls hm_1 hb9 hl
        refine lv_iload hx hb dX7_isOneBlade_29 (lv_at hl 5 rfl) ?_
        refine lv_aload_n hx hb dX7_isOneBlade_31 rfl (lv_at hl 0 rfl) ?_
        refine s_i (va_runV (As := []) (rest := [.int (nI b)]) ⟨hx, hb, hml, hown, hts⟩ (x7_full Z o th p0 q0 r0 mu zz (by omega)) (cwV 0 hts (lw_V q2147 q2149 qs43 q107 q2150) rfl rfl rfl (by decide +kernel) ⟨Nat.le_of_ble_eq_true rfl, Nat.le_of_ble_eq_true rfl⟩) (gP_V (va_recv hK hP (ci := 2) (q0 := 0) rfl rfl) hG hS (fun q _ h => h.elim) (hP.sub (ws' := [(o 0, .inr (2, mFs o th p0 q0 r0 mu zz))]) [0] rfl)) rfl rfl hl.1 rfl (lv_room (Nat.le_of_ble_eq_true rfl)) dX7_isOneBlade_32 ⟨by first | decide | omega, by first | decide | omega⟩) ?_
        refine lv_icmp_gt (tgt := 78) hx hb dX7_isOneBlade_35 (by decide) (fun c_35 => ?_) (fun c_35 => ?_)
        · have c_35 : (2 ^ (p0 + q0 + r0) - 1) < b := (nI_ltI (a := (2 ^ (p0 + q0 + r0) - 1)) (b := b) (by omega) (by omega)).mp c_35
          obtain rfl : b = 2 ^ (p0 + q0 + r0) := by omega
          refine lv_iload hx hb dX7_isOneBlade_78 (lv_at hl 4 rfl) ?_
          subst hQe
          exact W.zret (v := bI (oneN M (p0 + q0 + r0) (popc (grS M - 1)) (2 ^ (p0 + q0 + r0)))) hx hb hr (bI_z _) (fun t ht hW => ⟨_, rfl, (by unfold oneB; rw [decide_eq_true c_11, Bool.true_and]), ht⟩) hS.2.2 dX7_isOneBlade_80
        · have c_35 : ¬ (2 ^ (p0 + q0 + r0) - 1) < b := fun h => c_35 ((nI_ltI (a := (2 ^ (p0 + q0 + r0) - 1)) (b := b) (by omega) (by omega)).mpr h)
          have hb8 : b < 32 := by omega
          have hp9 := popc_le5 b hb8
          refine lv_iload hx hb dX7_isOneBlade_38 (lv_at hl 4 rfl) ?_
          refine lv_if_eq (tgt := 78) hx hb dX7_isOneBlade_40 (by decide) (fun c_40 => ?_) (fun c_40 => ?_)
          · refine lv_iload hx hb dX7_isOneBlade_78 (lv_at hl 4 rfl) ?_
            subst hQe
            exact W.zret (v := bI (oneN M (p0 + q0 + r0) (popc (grS M - 1)) b)) hx hb hr (bI_z _) (fun t ht hW => ⟨_, rfl, (by unfold oneB; rw [decide_eq_true c_11, Bool.true_and, bI_0 c_40, oneN_mono (bI_0 c_40) hb9]), ht⟩) hS.2.2 dX7_isOneBlade_80
          · refine lv_iload hx hb dX7_isOneBlade_43 (lv_at hl 5 rfl) ?_
            refine s_i (va_runS (As := [.int (nI b)]) (rest := []) ⟨hx, hb, hml, hown, hts⟩ (x7_size Z b (by omega)) (va_cwS 1 hts (lw_S q2158 q2159 q107 q2160) rfl rfl rfl (by decide +kernel) ⟨Nat.le_of_ble_eq_true rfl, Nat.le_of_ble_eq_true rfl⟩) (gP_S hG hS (fun q _ h => h.elim) trivial) rfl rfl hl.1 rfl (lv_room (Nat.le_of_ble_eq_true rfl)) dX7_isOneBlade_45 ⟨by first | decide | omega, by first | decide | omega⟩) ?_
            refine lv_iload_n hx hb dX7_isOneBlade_48 rfl (lv_at hl 3 rfl) ?_
            refine lv_iconst (v := nI 1) hx hb dX7_isOneBlade_49 (by decide) ?_
            refine lv_isub hx hb dX7_isOneBlade_50 ?_
            refine lv_icmp_ne (tgt := 65) hx hb dX7_isOneBlade_51 (by decide) (fun c_51 => ?_) (fun c_51 => ?_)
            · refine lv_iconst (v := nI 1) hx hb dX7_isOneBlade_65 (by decide) ?_
              refine lv_goto (tgt := 70) hx hb dX7_isOneBlade_66 (by decide) ?_
              refine e_i (y := bI (oneN M (p0 + q0 + r0) (popc (grS M - 1)) (b + 1))) ((by show _ = bI (oneN M (p0 + q0 + r0) (popc (grS M - 1)) b && (decide (¬ popc b + 1 = popc (grS M - 1)) || lieN M b (popc (grS M - 1)) (p0 + q0 + r0) (2 ^ (p0 + q0 + r0)))); rw [bI_1 c_40, Bool.true_and, decide_eq_true (p := ¬ popc b + 1 = popc (grS M - 1)) (fun h => c_51 (pred_eq h)), Bool.true_or]; rfl)) ?_
              refine lv_istore (lv' := [(4, .int (bI (oneN M (p0 + q0 + r0) (popc (grS M - 1)) (b + 1)))), (0, .ref (o 0)), (1, .int (nI k1)), (2, .int (nI (grS M))), (3, .int (nI (popc (grS M - 1)))), (5, .int (nI b))]) hx hb dX7_isOneBlade_70 hl (by decide) rfl (fun ls hl => ?_)
              refine lv_iinc (v := nI (b + 1)) (lv' := [(5, .int (nI (b + 1))), (4, .int (bI (oneN M (p0 + q0 + r0) (popc (grS M - 1)) (b + 1)))), (0, .ref (o 0)), (1, .int (nI k1)), (2, .int (nI (grS M))), (3, .int (nI (popc (grS M - 1))))]) hx hb dX7_isOneBlade_72 hl (k := 5) rfl (by exact nI_add _ 1) (by decide) rfl (fun ls hl => ?_)
              refine lv_goto (tgt := 29) hx hb dX7_isOneBlade_75 (by decide) ?_
              exact ih_1 (b + 1) ls (by omega) (by omega) (lv_sub hl [2, 3, 4, 5, 1, 0] rfl)
            · refine lv_aload_n hx hb dX7_isOneBlade_54 rfl (lv_at hl 0 rfl) ?_
              refine lv_iload_n hx hb dX7_isOneBlade_55 rfl (lv_at hl 1 rfl) ?_
              refine lv_iload hx hb dX7_isOneBlade_56 (lv_at hl 5 rfl) ?_
              refine lv_iload_n hx hb dX7_isOneBlade_58 rfl (lv_at hl 3 rfl) ?_
              refine s_i (va_runV (As := [.int (nI k1), .int (nI b), .int (nI (popc (grS M - 1)))]) (rest := []) ⟨hx, hb, hml, hown, hts⟩ (x7_liesIn Z o th p0 q0 r0 mu zz fA k1 b (popc (grS M - 1)) M (by omega) (by omega) (by omega) (by omega) hM) (cwV 3 hts (lw_V q2309 q2311 qs64 q107 q2312) rfl rfl rfl (by decide +kernel) ⟨Nat.le_of_ble_eq_true rfl, Nat.le_of_ble_eq_true rfl⟩) (gP_V (va_recv hK hP (ci := 2) (q0 := 0) rfl rfl) hG hS (fun q _ h => h.elim) (hP.sub (ws' := [(o 0, .inr (2, mFs o th p0 q0 r0 mu zz)), (o 5, .inl (dA 1, 2640, .inr (.inl fA)))]) [0, 1] rfl)) rfl rfl hl.1 rfl (lv_room (Nat.le_of_ble_eq_true rfl)) dX7_isOneBlade_59 ⟨by first | decide | omega, by first | decide | omega⟩) ?_
              refine lv_if_eq (tgt := 69) hx hb dX7_isOneBlade_62 (by decide) (fun c_62 => ?_) (fun c_62 => ?_)
              · refine lv_iconst (v := nI 0) hx hb dX7_isOneBlade_69 (by decide) ?_
                refine e_i (y := bI (oneN M (p0 + q0 + r0) (popc (grS M - 1)) (b + 1))) ((by show _ = bI (oneN M (p0 + q0 + r0) (popc (grS M - 1)) b && (decide (¬ popc b + 1 = popc (grS M - 1)) || lieN M b (popc (grS M - 1)) (p0 + q0 + r0) (2 ^ (p0 + q0 + r0)))); rw [bI_1 c_40, Bool.true_and, decide_eq_false (p := ¬ popc b + 1 = popc (grS M - 1)) (fun h => h (by have := isub_eq (i := 1) (by omega) (by omega) (by omega) c_51; omega)), Bool.false_or, bI_0 c_62]; rfl)) ?_
                refine lv_istore (lv' := [(4, .int (bI (oneN M (p0 + q0 + r0) (popc (grS M - 1)) (b + 1)))), (0, .ref (o 0)), (1, .int (nI k1)), (2, .int (nI (grS M))), (3, .int (nI (popc (grS M - 1)))), (5, .int (nI b))]) hx hb dX7_isOneBlade_70 hl (by decide) rfl (fun ls hl => ?_)
                refine lv_iinc (v := nI (b + 1)) (lv' := [(5, .int (nI (b + 1))), (4, .int (bI (oneN M (p0 + q0 + r0) (popc (grS M - 1)) (b + 1)))), (0, .ref (o 0)), (1, .int (nI k1)), (2, .int (nI (grS M))), (3, .int (nI (popc (grS M - 1))))]) hx hb dX7_isOneBlade_72 hl (k := 5) rfl (by exact nI_add _ 1) (by decide) rfl (fun ls hl => ?_)
                refine lv_goto (tgt := 29) hx hb dX7_isOneBlade_75 (by decide) ?_
                exact ih_1 (b + 1) ls (by omega) (by omega) (lv_sub hl [2, 3, 4, 5, 1, 0] rfl)
              · refine lv_iconst (v := nI 1) hx hb dX7_isOneBlade_65 (by decide) ?_
                refine lv_goto (tgt := 70) hx hb dX7_isOneBlade_66 (by decide) ?_
                refine e_i (y := bI (oneN M (p0 + q0 + r0) (popc (grS M - 1)) (b + 1))) ((by show _ = bI (oneN M (p0 + q0 + r0) (popc (grS M - 1)) b && (decide (¬ popc b + 1 = popc (grS M - 1)) || lieN M b (popc (grS M - 1)) (p0 + q0 + r0) (2 ^ (p0 + q0 + r0)))); rw [bI_1 c_40, Bool.true_and, decide_eq_false (p := ¬ popc b + 1 = popc (grS M - 1)) (fun h => h (by have := isub_eq (i := 1) (by omega) (by omega) (by omega) c_51; omega)), Bool.false_or, bI_1 c_62]; rfl)) ?_
                refine lv_istore (lv' := [(4, .int (bI (oneN M (p0 + q0 + r0) (popc (grS M - 1)) (b + 1)))), (0, .ref (o 0)), (1, .int (nI k1)), (2, .int (nI (grS M))), (3, .int (nI (popc (grS M - 1)))), (5, .int (nI b))]) hx hb dX7_isOneBlade_70 hl (by decide) rfl (fun ls hl => ?_)
                refine lv_iinc (v := nI (b + 1)) (lv' := [(5, .int (nI (b + 1))), (4, .int (bI (oneN M (p0 + q0 + r0) (popc (grS M - 1)) (b + 1)))), (0, .ref (o 0)), (1, .int (nI k1)), (2, .int (nI (grS M))), (3, .int (nI (popc (grS M - 1))))]) hx hb dX7_isOneBlade_72 hl (k := 5) rfl (by exact nI_add _ 1) (by decide) rfl (fun ls hl => ?_)
                refine lv_goto (tgt := 29) hx hb dX7_isOneBlade_75 (by decide) ?_
                exact ih_1 (b + 1) ls (by omega) (by omega) (lv_sub hl [2, 3, 4, 5, 1, 0] rfl)
    exact loop_1 _ 0 ls (Nat.lt_succ_self _) (by omega) (lv_sub hl [4, 5, 3, 2, 1, 0] rfl)
  · have c_11 : ¬ (popc (grS M)) = 1 := fun h => c_11 ((nI_eq (a := (popc (grS M))) (b := 1) (by omega) (by omega)).mpr h)
    refine lv_iconst (v := nI 0) hx hb dX7_isOneBlade_14 (by decide) ?_
    subst hQe
    exact W.zret (v := nI 0) hx hb hr rfl (fun t ht hW => ⟨_, rfl, (by unfold oneB; rw [decide_eq_false c_11]; rfl), ht⟩) hS.2.2 dX7_isOneBlade_15
set_option maxHeartbeats 4000000 in
theorem x7_isBlade {l : Launch} {dC : Nat → ClassId} {dI : Nat → Nat → Nat} {dA : Nat → ClassId} {s0 : State} {b0 : Addr} (Z : Z0 l dC dI dA s0 b0) (A : Nat → Prop) (sz : Nat) (hA : ∀ q : Nat, sz ≤ q → A q) (o : Nat → Nat) (th : Int32) (p0 q0 r0 : Nat) (mu : Int64) (zz : Nat → Int32) (fA fM : Nat → Int64) (Ms : Nat → MV) (a : Int32) (hn : p0 + q0 + r0 ≤ 5) (hR : ∀ k, k < 8 → Hold fA k (Ms k)) (sR : ∀ k, k < 8 → MSm (Ms k)) : Met l yX7_isBlade (ws_ yX7_isBlade cX7_isBlade 2 (some .boolean)) ({ frames := 5, cells := 0, slots := 0, locals := 300 } : Room) (gP [.ref (o 0), .int a] s0 A (fun H => H.size = sz ∧ va_P (dC, dI) vwCl [(o 0, .inr (2, mFs o th p0 q0 r0 mu zz)), (o 5, .inl (dA 1, 2640, .inr (.inl fA)))] H ∧ va_D A [(o 0, .inr (2, mFs o th p0 q0 r0 mu zz)), (o 5, .inl (dA 1, 2640, .inr (.inl fA)))])) (va_Qi (S := Int32) (fun r u => (u, r) = blaX p0 q0 r0 Ms a) (B1 (dC, dI) A (fun u => [(o 0, .inr (2, mFs o u p0 q0 r0 mu zz)), (o 5, .inl (dA 1, 2640, .inr (.inl fA)))]) (fun _ _ => True)) A) 0 0 A := by
  refine Met.ofW (cc := cX7_isBlade) (maxL := 2) (ret := (some .boolean)) (by decide) rfl ?_
  intro p e s m args below meth c s₁ B hml hv
  obtain ⟨hav, hG, hsz, hP, hD⟩ := hv
  have hx := B.exec
  have hb := B.bytes
  have hr := B.returns
  have hts := atoms_spec (ws := (ws_ yX7_isBlade cX7_isBlade 2 (some .boolean))) B.pre
  have hts : ∀ w ∈ lw_all, w.before _ s = true := fun w h => hts w (List.mem_cons_of_mem _ h)
  have hown : s.vm.findClass RX7 = some m.cls := findClass_of_methodNamed B.named
  have hlocks := B.notSynchronized
  have hK := hG.K Z
  subst hsz
  have hS : va_S A s.heap s.heap [] := va_S.rf
  have hl := lv_entry ([.ref (o 0), .int a]) (n := 2) (Nat.le_of_ble_eq_true rfl)
  rw [show entryFrame m args 2 = entryFrame m ([.ref (o 0), .int a] : List Value).toArray 2 from by rw [hav], lg_entry_eq]
  generalize (lg_sl ([.ref (o 0), .int a]) ++ List.replicate (2 - (lg_sl ([.ref (o 0), .int a])).length) Slot.unset).toArray = ls at hl ⊢
  have hl : lv_has ls 2 [(0, .ref (o 0)), (1, .int a)] := hl
  generalize hQe : MQ below _ _ s _ _ _ = Q
  change W p l e ({ frames := 5, cells := 0, slots := 0, locals := 300 } : Room) s m args below meth c s.heap [] 0 0 Q (F0 m 0 ls [])
  refine lv_aload_n hx hb dX7_isBlade_0 rfl (lv_at hl 0 rfl) ?_
  refine lv_iload_n hx hb dX7_isBlade_1 rfl (lv_at hl 1 rfl) ?_
  refine s_i (va_runS (As := [.int a]) (rest := [.ref (o 0)]) ⟨hx, hb, hml, hown, hts⟩ (x7_isRegister Z a) (va_cwS 1 hts (lw_S q2104 q2105 q107 q2106) rfl rfl rfl (by decide +kernel) ⟨Nat.le_of_ble_eq_true rfl, Nat.le_of_ble_eq_true rfl⟩) (gP_S hG hS (fun q _ h => h.elim) trivial) rfl rfl hl.1 rfl (lv_room (Nat.le_of_ble_eq_true rfl)) dX7_isBlade_2 ⟨by first | decide | omega, by first | decide | omega⟩) ?_
  refine lv_if_eq (tgt := 12) hx hb dX7_isBlade_5 (by decide) (fun c_5 => ?_) (fun c_5 => ?_)
  · have h_a := bI_0 c_5
    refine lv_iconst (v := nI 1) hx hb dX7_isBlade_12 (by decide) ?_
    refine va_put (D := (dC, dI)) (ci := 2) (v := .int (nI 1)) (ty := .int) (C := RX7) (T := TX7) (N := 27) hx hb hts in_X7 tyX7 tyX7_ok nmX7 hown hK hP hD hS 0 rfl rfl 0 (by decide) (hts _ q2006) (fun _ h9 => h9) rfl (by decide +kernel) rfl rfl (Nat.le_of_ble_eq_true rfl) dX7_isBlade_13 (fun H locs hP hD hS => ?_)
    have hP : va_P (dC, dI) vwCl [(o 0, .inr (2, mFs o (nI 1) p0 q0 r0 mu zz)), (o 5, .inl (dA 1, 2640, .inr (.inl fA)))] H := hP
    have hD : va_D A [(o 0, .inr (2, mFs o (nI 1) p0 q0 r0 mu zz)), (o 5, .inl (dA 1, 2640, .inr (.inl fA)))] := hD
    refine lv_aload_n hx hb dX7_isBlade_16 rfl (lv_at hl 0 rfl) ?_
    refine va_get (D := (dC, dI)) (ci := 2) (v := .int (nI 1)) (C := RX7) (T := TX7) (N := 27) hx hb hts in_X7 hown hK hP 0 rfl rfl 0 (by decide) (hts _ q2006) (fun _ h9 => h9) rfl dX7_isBlade_17 ?_
    refine lv_if_ne (tgt := 35) hx hb dX7_isBlade_20 (by decide) (fun c_20 => ?_) (fun c_20 => ?_)
    rotate_left
    · exact absurd c_20 (by decide)
    refine lv_iconst (v := nI 0) hx hb dX7_isBlade_35 (by decide) ?_
    subst hQe
    exact W.zret (v := nI 0) hx hb hr rfl (fun t ht hW => ⟨⟨_, nI 1, rfl, (by simp [blaX, bI, rgB, blB, optC, h_a]), B1_at ht (hP.sub [0, 1] rfl) (hD.sub [0, 1] (by decide) rfl) trivial⟩, hS.F ht⟩) hS.2.2 dX7_isBlade_36
  · have h_a := bI_1 c_5
    obtain ⟨ja, hj_a, rfl⟩ := inB_nat (by decide) h_a
    refine lv_iconst (v := nI 0) hx hb dX7_isBlade_8 (by decide) ?_
    refine lv_goto (tgt := 13) hx hb dX7_isBlade_9 (by decide) ?_
    refine va_put (D := (dC, dI)) (ci := 2) (v := .int (nI 0)) (ty := .int) (C := RX7) (T := TX7) (N := 27) hx hb hts in_X7 tyX7 tyX7_ok nmX7 hown hK hP hD hS 0 rfl rfl 0 (by decide) (hts _ q2006) (fun _ h9 => h9) rfl (by decide +kernel) rfl rfl (Nat.le_of_ble_eq_true rfl) dX7_isBlade_13 (fun H locs hP hD hS => ?_)
    have hP : va_P (dC, dI) vwCl [(o 0, .inr (2, mFs o (nI 0) p0 q0 r0 mu zz)), (o 5, .inl (dA 1, 2640, .inr (.inl fA)))] H := hP
    have hD : va_D A [(o 0, .inr (2, mFs o (nI 0) p0 q0 r0 mu zz)), (o 5, .inl (dA 1, 2640, .inr (.inl fA)))] := hD
    refine lv_aload_n hx hb dX7_isBlade_16 rfl (lv_at hl 0 rfl) ?_
    refine va_get (D := (dC, dI)) (ci := 2) (v := .int (nI 0)) (C := RX7) (T := TX7) (N := 27) hx hb hts in_X7 hown hK hP 0 rfl rfl 0 (by decide) (hts _ q2006) (fun _ h9 => h9) rfl dX7_isBlade_17 ?_
    refine lv_if_ne (tgt := 35) hx hb dX7_isBlade_20 (by decide) (fun c_20 => ?_) (fun c_20 => ?_)
    · exact absurd (by decide) c_20
    refine lv_aload_n hx hb dX7_isBlade_23 rfl (lv_at hl 0 rfl) ?_
    refine lv_iload_n hx hb dX7_isBlade_24 rfl (lv_at hl 1 rfl) ?_
    refine s_i (va_runV (As := [.int (nI ja)]) (rest := []) ⟨hx, hb, hml, hown, hts⟩ (x7_isOneBlade Z o (nI 0) p0 q0 r0 mu zz fA ja (Ms ja) (by omega) (by omega) (hR ja (by omega))) (cwV 1 hts (lw_V q2305 q2307 qs63 q107 q2308) rfl rfl rfl (by decide +kernel) ⟨Nat.le_of_ble_eq_true rfl, Nat.le_of_ble_eq_true rfl⟩) (gP_V (va_recv hK hP (ci := 2) (q0 := 0) rfl rfl) hG hS (fun q _ h => h.elim) (hP.sub (ws' := [(o 0, .inr (2, mFs o (nI 0) p0 q0 r0 mu zz)), (o 5, .inl (dA 1, 2640, .inr (.inl fA)))]) [0, 1] rfl)) rfl rfl hl.1 rfl (lv_room (Nat.le_of_ble_eq_true rfl)) dX7_isBlade_25 ⟨by first | decide | omega, by first | decide | omega⟩) ?_
    refine lv_if_eq (tgt := 35) hx hb dX7_isBlade_28 (by decide) (fun c_28 => ?_) (fun c_28 => ?_)
    · have hb_28 := bI_0 c_28
      refine lv_iconst (v := nI 0) hx hb dX7_isBlade_35 (by decide) ?_
      subst hQe
      exact W.zret (v := nI 0) hx hb hr rfl (fun t ht hW => ⟨⟨_, nI 0, rfl, (by simp [blaX, bI, rgB, blB, optC, h_a, hb_28, rg_n (show ja < 8 by omega), nI_clamp (show ja < 2 ^ 31 by omega)]), B1_at ht (hP.sub [0, 1] rfl) (hD.sub [0, 1] (by decide) rfl) trivial⟩, hS.F ht⟩) hS.2.2 dX7_isBlade_36
    · have hb_28 := bI_1 c_28
      refine lv_iconst (v := nI 1) hx hb dX7_isBlade_31 (by decide) ?_
      refine lv_goto (tgt := 36) hx hb dX7_isBlade_32 (by decide) ?_
      subst hQe
      exact W.zret (v := nI 1) hx hb hr rfl (fun t ht hW => ⟨⟨_, nI 0, rfl, (by simp [blaX, bI, rgB, blB, optC, h_a, hb_28, rg_n (show ja < 8 by omega), nI_clamp (show ja < 2 ^ 31 by omega)]), B1_at ht (hP.sub [0, 1] rfl) (hD.sub [0, 1] (by decide) rfl) trivial⟩, hS.F ht⟩) hS.2.2 dX7_isBlade_36
set_option maxHeartbeats 4000000 in
theorem x7_amount {l : Launch} {dC : Nat → ClassId} {dI : Nat → Nat → Nat} {dA : Nat → ClassId} {s0 : State} {b0 : Addr} (Z : Z0 l dC dI dA s0 b0) (v : Int64) : Met l yX7_amount (ws_ yX7_amount cX7_amount 2 (some .long)) ({ frames := 1, cells := 0, slots := 0, locals := 60 } : Room) (gP [.long v] s0 (fun _ => False) (fun H => True)) (vp_Sl (fun r => r = absL v)) 0 0 (fun _ => False) := by
  refine Met.ofW (cc := cX7_amount) (maxL := 2) (ret := (some .long)) (by decide) rfl ?_
  intro p e s m args below meth c s₁ B hml hv
  obtain ⟨hav, hG, hno⟩ := hv
  have hx := B.exec
  have hb := B.bytes
  have hr := B.returns
  have hts := atoms_spec (ws := (ws_ yX7_amount cX7_amount 2 (some .long))) B.pre
  have hts : ∀ w ∈ lw_all, w.before _ s = true := fun w h => hts w (List.mem_cons_of_mem _ h)
  have hown : s.vm.findClass RX7 = some m.cls := findClass_of_methodNamed B.named
  have hlocks := B.notSynchronized
  have hK := hG.K Z
  have hS : va_S (fun _ => False) s.heap s.heap [] := va_S.rf
  have hP : va_P (dC, dI) vwCl [] s.heap := fun k q h => by simp at h
  have hD : va_D (fun _ => False) [] := ⟨fun i j p q h => by simp at h, fun k q h => by simp at h⟩
  have hl := lv_entry ([.long v]) (n := 2) (Nat.le_of_ble_eq_true rfl)
  rw [show entryFrame m args 2 = entryFrame m ([.long v] : List Value).toArray 2 from by rw [hav], lg_entry_eq]
  generalize (lg_sl ([.long v]) ++ List.replicate (2 - (lg_sl ([.long v])).length) Slot.unset).toArray = ls at hl ⊢
  have hl : lv_has ls 2 [(0, .long v)] := hl
  generalize hQe : MQ below _ _ s _ _ _ = Q
  change W p l e ({ frames := 1, cells := 0, slots := 0, locals := 60 } : Room) s m args below meth c s.heap [] 0 0 Q (F0 m 0 ls [])
  refine lv_lload_n hx hb dX7_amount_0 rfl (lv_at hl 0 rfl) ?_
  refine lv_lconst (v := 0) hx hb dX7_amount_1 rfl ?_
  refine W.lcmp hx hb dX7_amount_2 ?_
  refine lv_if_ge (tgt := 11) hx hb dX7_amount_3 (by decide) (fun c_3 => ?_) (fun c_3 => ?_)
  · have c_3 : 0 ≤ v := (lg_cmp_ge _ _).mp c_3
    refine lv_lload_n hx hb dX7_amount_11 rfl (lv_at hl 0 rfl) ?_
    subst hQe
    exact W.lret (v := v) hx hb hr (fun t ht hW => ⟨_, rfl, (by unfold absL; rw [if_neg (Int64.not_lt.mpr c_3)]), ht⟩) hS.2.2 dX7_amount_12
  · have c_3 : ¬ 0 ≤ v := fun h => c_3 ((lg_cmp_ge _ _).mpr h)
    refine lv_lload_n hx hb dX7_amount_6 rfl (lv_at hl 0 rfl) ?_
    refine lv_lneg hx hb dX7_amount_7 ?_
    refine lv_goto (tgt := 12) hx hb dX7_amount_8 (by decide) ?_
    subst hQe
    exact W.lret (v := -v) hx hb hr (fun t ht hW => ⟨_, rfl, (by unfold absL; rw [if_pos (Int64.not_le.mp c_3)]), ht⟩) hS.2.2 dX7_amount_12
set_option maxHeartbeats 4000000 in
theorem x7_greatest {l : Launch} {dC : Nat → ClassId} {dI : Nat → Nat → Nat} {dA : Nat → ClassId} {s0 : State} {b0 : Addr} (Z : Z0 l dC dI dA s0 b0) (o : Nat → Nat) (th : Int32) (p0 q0 r0 : Nat) (mu : Int64) (zz : Nat → Int32) (fA : Nat → Int64) (k1 : Nat) (M : MV) (hn : p0 + q0 + r0 ≤ 5) (hk1 : k1 < 80) (hM : Hold fA k1 M) : Met l yX7_greatest (ws_ yX7_greatest cX7_greatest 4 (some .int)) ({ frames := 3, cells := 0, slots := 0, locals := 180 } : Room) (gP [.ref (o 0), .int (nI k1)] s0 (fun _ => False) (fun H => va_P (dC, dI) vwCl [(o 0, .inr (2, mFs o th p0 q0 r0 mu zz)), (o 5, .inl (dA 1, 2640, .inr (.inl fA)))] H)) (vp_Si (fun r => r = nI (grtN M (2 ^ (p0 + q0 + r0))))) 0 0 (fun _ => False) := by
  refine Met.ofW (cc := cX7_greatest) (maxL := 4) (ret := (some .int)) (by decide) rfl ?_
  intro p e s m args below meth c s₁ B hml hv
  obtain ⟨hav, hG, hP⟩ := hv
  have hx := B.exec
  have hb := B.bytes
  have hr := B.returns
  have hts := atoms_spec (ws := (ws_ yX7_greatest cX7_greatest 4 (some .int))) B.pre
  have hts : ∀ w ∈ lw_all, w.before _ s = true := fun w h => hts w (List.mem_cons_of_mem _ h)
  have hown : s.vm.findClass RX7 = some m.cls := findClass_of_methodNamed B.named
  have hlocks := B.notSynchronized
  have hK := hG.K Z
  have hS : va_S (fun _ => False) s.heap s.heap [] := va_S.rf
  have hl := lv_entry ([.ref (o 0), .int (nI k1)]) (n := 4) (Nat.le_of_ble_eq_true rfl)
  rw [show entryFrame m args 4 = entryFrame m ([.ref (o 0), .int (nI k1)] : List Value).toArray 4 from by rw [hav], lg_entry_eq]
  generalize (lg_sl ([.ref (o 0), .int (nI k1)]) ++ List.replicate (4 - (lg_sl ([.ref (o 0), .int (nI k1)])).length) Slot.unset).toArray = ls at hl ⊢
  have hl : lv_has ls 4 [(0, .ref (o 0)), (1, .int (nI k1))] := hl
  generalize hQe : MQ below _ _ s _ _ _ = Q
  change W p l e ({ frames := 3, cells := 0, slots := 0, locals := 180 } : Room) s m args below meth c s.heap [] 0 0 Q (F0 m 0 ls [])
  have h5 := pow5 hn
  refine lv_iconst (v := nI 0) hx hb dX7_greatest_0 (by decide) ?_
  refine lv_istore_n (lv' := [(2, .int (nI 0)), (0, .ref (o 0)), (1, .int (nI k1))]) hx hb dX7_greatest_1 rfl hl (by decide) rfl (fun ls hl => ?_)
  refine lv_iconst (v := nI 1) hx hb dX7_greatest_2 (by decide) ?_
  refine lv_istore_n (lv' := [(3, .int (nI 1)), (2, .int (nI 0)), (0, .ref (o 0)), (1, .int (nI k1))]) hx hb dX7_greatest_3 rfl hl (by decide) rfl (fun ls hl => ?_)
  have loop_1 : ∀ (n9_1 : Nat) (k : Nat) (ls : Array Slot), 33 - k < n9_1 → (1 ≤ k) → (k ≤ 2 ^ (p0 + q0 + r0)) → lv_has ls 4 [(0, .ref (o 0)), (1, .int (nI k1)), (2, .int (nI (grtN M k))), (3, .int (nI k))] → W p l e ({ frames := 3, cells := 0, slots := 0, locals := 180 } : Room) s m args below meth c s.heap [] 0 0 Q (F0 m 4 ls []) := by
    intro n9_1
    induction n9_1 with
    | zero => intro k ls hm_1; exact absurd hm_1 (Nat.not_lt_zero _)
    | succ n9_1 ih_1 =>
      intro k ls hm_1 hk8 hk9 hl
      have hl9 := grtN_lt M k (by omega)
      refine lv_iload_n hx hb dX7_greatest_4 rfl (lv_at hl 3 rfl) ?_
      refine lv_aload_n hx hb dX7_greatest_5 rfl (lv_at hl 0 rfl) ?_
      refine s_i (va_runV (As := []) (rest := [.int (nI k)]) ⟨hx, hb, hml, hown, hts⟩ (x7_full Z o th p0 q0 r0 mu zz (by omega)) (cwV 0 hts (lw_V q2147 q2149 qs43 q107 q2150) rfl rfl rfl (by decide +kernel) ⟨Nat.le_of_ble_eq_true rfl, Nat.le_of_ble_eq_true rfl⟩) (gP_V (va_recv hK hP (ci := 2) (q0 := 0) rfl rfl) hG hS (fun q _ h => h.elim) (hP.sub (ws' := [(o 0, .inr (2, mFs o th p0 q0 r0 mu zz))]) [0] rfl)) rfl rfl hl.1 rfl (lv_room (Nat.le_of_ble_eq_true rfl)) dX7_greatest_6 ⟨by first | decide | omega, by first | decide | omega⟩) ?_
      refine lv_icmp_gt (tgt := 46) hx hb dX7_greatest_9 (by decide) (fun c_9 => ?_) (fun c_9 => ?_)
      · have c_9 : (2 ^ (p0 + q0 + r0) - 1) < k := (nI_ltI (a := (2 ^ (p0 + q0 + r0) - 1)) (b := k) (by omega) (by omega)).mp c_9
        obtain rfl : k = 2 ^ (p0 + q0 + r0) := by omega
        refine lv_iload_n hx hb dX7_greatest_46 rfl (lv_at hl 2 rfl) ?_
        subst hQe
        exact W.iret (v := nI (grtN M (2 ^ (p0 + q0 + r0)))) hx hb hr (fun t ht hW => ⟨_, rfl, rfl, ht⟩) hS.2.2 dX7_greatest_47
      · have c_9 : ¬ (2 ^ (p0 + q0 + r0) - 1) < k := fun h => c_9 ((nI_ltI (a := (2 ^ (p0 + q0 + r0) - 1)) (b := k) (by omega) (by omega)).mpr h)
        refine lv_aload_n hx hb dX7_greatest_12 rfl (lv_at hl 0 rfl) ?_
        refine lv_iload_n hx hb dX7_greatest_13 rfl (lv_at hl 1 rfl) ?_
        refine lv_iload_n hx hb dX7_greatest_14 rfl (lv_at hl 3 rfl) ?_
        refine s_l (va_runV (As := [.int (nI k1), .int (nI k)]) (rest := []) ⟨hx, hb, hml, hown, hts⟩ (x7_of Z o th p0 q0 r0 mu zz fA k1 k (by omega)) (cwV 2 hts (lw_V q2119 q2121 qs38 q107 q2122) rfl rfl rfl (by decide +kernel) ⟨Nat.le_of_ble_eq_true rfl, Nat.le_of_ble_eq_true rfl⟩) (gP_V (va_recv hK hP (ci := 2) (q0 := 0) rfl rfl) hG hS (fun q _ h => h.elim) (hP.sub (ws' := [(o 0, .inr (2, mFs o th p0 q0 r0 mu zz)), (o 5, .inl (dA 1, 2640, .inr (.inl fA)))]) [0, 1] rfl)) rfl rfl hl.1 rfl (lv_room (Nat.le_of_ble_eq_true rfl)) dX7_greatest_15 ⟨by first | decide | omega, by first | decide | omega⟩) ?_
        refine e_l (y := M (k + 1)) (hold_at hM (i := k + 1) (by omega) (by omega)) ?_
        refine s_l (va_runS (As := [.long (M (k + 1))]) (rest := []) ⟨hx, hb, hml, hown, hts⟩ (x7_amount Z (M (k + 1))) (va_cwS 1 hts (lw_S q2345 q2346 q107 q2347) rfl rfl rfl (by decide +kernel) ⟨Nat.le_of_ble_eq_true rfl, Nat.le_of_ble_eq_true rfl⟩) (gP_S hG hS (fun q _ h => h.elim) trivial) rfl rfl hl.1 rfl (lv_room (Nat.le_of_ble_eq_true rfl)) dX7_greatest_18 ⟨by first | decide | omega, by first | decide | omega⟩) ?_
        refine lv_aload_n hx hb dX7_greatest_21 rfl (lv_at hl 0 rfl) ?_
        refine lv_iload_n hx hb dX7_greatest_22 rfl (lv_at hl 1 rfl) ?_
        refine lv_iload_n hx hb dX7_greatest_23 rfl (lv_at hl 2 rfl) ?_
        refine s_l (va_runV (As := [.int (nI k1), .int (nI (grtN M k))]) (rest := [.long (absL (M (k + 1)))]) ⟨hx, hb, hml, hown, hts⟩ (x7_of Z o th p0 q0 r0 mu zz fA k1 (grtN M k) (by omega)) (cwV 2 hts (lw_V q2119 q2121 qs38 q107 q2122) rfl rfl rfl (by decide +kernel) ⟨Nat.le_of_ble_eq_true rfl, Nat.le_of_ble_eq_true rfl⟩) (gP_V (va_recv hK hP (ci := 2) (q0 := 0) rfl rfl) hG hS (fun q _ h => h.elim) (hP.sub (ws' := [(o 0, .inr (2, mFs o th p0 q0 r0 mu zz)), (o 5, .inl (dA 1, 2640, .inr (.inl fA)))]) [0, 1] rfl)) rfl rfl hl.1 rfl (lv_room (Nat.le_of_ble_eq_true rfl)) dX7_greatest_24 ⟨by first | decide | omega, by first | decide | omega⟩) ?_
        refine e_l (y := M ((grtN M k) + 1)) (hold_at hM (i := (grtN M k) + 1) (by omega) (by omega)) ?_
        refine s_l (va_runS (As := [.long (M ((grtN M k) + 1))]) (rest := [.long (absL (M (k + 1)))]) ⟨hx, hb, hml, hown, hts⟩ (x7_amount Z (M ((grtN M k) + 1))) (va_cwS 1 hts (lw_S q2345 q2346 q107 q2347) rfl rfl rfl (by decide +kernel) ⟨Nat.le_of_ble_eq_true rfl, Nat.le_of_ble_eq_true rfl⟩) (gP_S hG hS (fun q _ h => h.elim) trivial) rfl rfl hl.1 rfl (lv_room (Nat.le_of_ble_eq_true rfl)) dX7_greatest_27 ⟨by first | decide | omega, by first | decide | omega⟩) ?_
        refine W.lcmp hx hb dX7_greatest_30 ?_
        refine lv_if_le (tgt := 38) hx hb dX7_greatest_31 (by decide) (fun c_31 => ?_) (fun c_31 => ?_)
        · have c_31 : (absL (M (k + 1))) ≤ (absL (M ((grtN M k) + 1))) := (lg_cmp_le _ _).mp c_31
          refine lv_iload_n hx hb dX7_greatest_38 rfl (lv_at hl 2 rfl) ?_
          refine e_i (y := nI (grtN M (k + 1))) (n_eq (Eq.symm (show (if k = 0 then 0 else if absL (M (k + 1)) ≤ absL (M (grtN M k + 1)) then grtN M k else k) = _ from by rw [if_neg (by omega), if_pos c_31]))) ?_
          refine lv_istore_n (lv' := [(2, .int (nI (grtN M (k + 1)))), (0, .ref (o 0)), (1, .int (nI k1)), (3, .int (nI k))]) hx hb dX7_greatest_39 rfl hl (by decide) rfl (fun ls hl => ?_)
          refine lv_iinc (v := nI (k + 1)) (lv' := [(3, .int (nI (k + 1))), (2, .int (nI (grtN M (k + 1)))), (0, .ref (o 0)), (1, .int (nI k1))]) hx hb dX7_greatest_40 hl (k := 3) rfl (by exact nI_add _ 1) (by decide) rfl (fun ls hl => ?_)
          refine lv_goto (tgt := 4) hx hb dX7_greatest_43 (by decide) ?_
          exact ih_1 (k + 1) ls (by omega) (by omega) (by omega) (lv_sub hl [2, 3, 1, 0] rfl)
        · have c_31 : ¬ (absL (M (k + 1))) ≤ (absL (M ((grtN M k) + 1))) := fun h => c_31 ((lg_cmp_le _ _).mpr h)
          refine lv_iload_n hx hb dX7_greatest_34 rfl (lv_at hl 3 rfl) ?_
          refine lv_goto (tgt := 39) hx hb dX7_greatest_35 (by decide) ?_
          refine e_i (y := nI (grtN M (k + 1))) (n_eq (Eq.symm (show (if k = 0 then 0 else if absL (M (k + 1)) ≤ absL (M (grtN M k + 1)) then grtN M k else k) = _ from by rw [if_neg (by omega), if_neg c_31]))) ?_
          refine lv_istore_n (lv' := [(2, .int (nI (grtN M (k + 1)))), (0, .ref (o 0)), (1, .int (nI k1)), (3, .int (nI k))]) hx hb dX7_greatest_39 rfl hl (by decide) rfl (fun ls hl => ?_)
          refine lv_iinc (v := nI (k + 1)) (lv' := [(3, .int (nI (k + 1))), (2, .int (nI (grtN M (k + 1)))), (0, .ref (o 0)), (1, .int (nI k1))]) hx hb dX7_greatest_40 hl (k := 3) rfl (by exact nI_add _ 1) (by decide) rfl (fun ls hl => ?_)
          refine lv_goto (tgt := 4) hx hb dX7_greatest_43 (by decide) ?_
          exact ih_1 (k + 1) ls (by omega) (by omega) (by omega) (lv_sub hl [2, 3, 1, 0] rfl)
  exact loop_1 _ 1 ls (Nat.lt_succ_self _) (by omega) (by omega) (lv_sub hl [2, 3, 1, 0] rfl)
set_option maxHeartbeats 4000000 in
theorem x7_isVersor {l : Launch} {dC : Nat → ClassId} {dI : Nat → Nat → Nat} {dA : Nat → ClassId} {s0 : State} {b0 : Addr} (Z : Z0 l dC dI dA s0 b0) (A : Nat → Prop) (sz : Nat) (hA : ∀ q : Nat, sz ≤ q → A q) (o : Nat → Nat) (th : Int32) (p0 q0 r0 : Nat) (mu : Int64) (zz : Nat → Int32) (fA fM : Nat → Int64) (Ms : Nat → MV) (a : Int32) (hn : p0 + q0 + r0 ≤ 5) (hR : ∀ k, k < 8 → Hold fA k (Ms k)) (sR : ∀ k, k < 8 → MSm (Ms k)) : Met l yX7_isVersor (ws_ yX7_isVersor cX7_isVersor 4 (some .boolean)) ({ frames := 8, cells := 0, slots := 0, locals := 480 } : Room) (gP [.ref (o 0), .int a] s0 A (fun H => H.size = sz ∧ va_P (dC, dI) vwCl [(o 0, .inr (2, mFs o th p0 q0 r0 mu zz)), (o 5, .inl (dA 1, 2640, .inr (.inl fA))), (o 6, .inl (dA 1, 32, .inr (.inl fM)))] H ∧ va_D A [(o 0, .inr (2, mFs o th p0 q0 r0 mu zz)), (o 5, .inl (dA 1, 2640, .inr (.inl fA))), (o 6, .inl (dA 1, 32, .inr (.inl fM)))])) (va_Qi (S := (Nat → Int64) × (Nat → Int64) × Int64 × Int32) (fun r u => (u.2.2.2, r) = verX p0 q0 r0 Ms a ∧ Kp fA u.1 outH) (B1 (dC, dI) A (fun u => mC dA o u.2.2.2 p0 q0 r0 u.2.2.1 zz u.1 u.2.1) (fun _ _ => True)) A) 0 0 A := by
  refine Met.ofW (cc := cX7_isVersor) (maxL := 4) (ret := (some .boolean)) (by decide) rfl ?_
  intro p e s m args below meth c s₁ B hml hv
  obtain ⟨hav, hG, hsz, hP, hD⟩ := hv
  have hx := B.exec
  have hb := B.bytes
  have hr := B.returns
  have hts := atoms_spec (ws := (ws_ yX7_isVersor cX7_isVersor 4 (some .boolean))) B.pre
  have hts : ∀ w ∈ lw_all, w.before _ s = true := fun w h => hts w (List.mem_cons_of_mem _ h)
  have hown : s.vm.findClass RX7 = some m.cls := findClass_of_methodNamed B.named
  have hlocks := B.notSynchronized
  have hK := hG.K Z
  subst hsz
  have hS : va_S A s.heap s.heap [] := va_S.rf
  have hl := lv_entry ([.ref (o 0), .int a]) (n := 4) (Nat.le_of_ble_eq_true rfl)
  rw [show entryFrame m args 4 = entryFrame m ([.ref (o 0), .int a] : List Value).toArray 4 from by rw [hav], lg_entry_eq]
  generalize (lg_sl ([.ref (o 0), .int a]) ++ List.replicate (4 - (lg_sl ([.ref (o 0), .int a])).length) Slot.unset).toArray = ls at hl ⊢
  have hl : lv_has ls 4 [(0, .ref (o 0)), (1, .int a)] := hl
  generalize hQe : MQ below _ _ s _ _ _ = Q
  change W p l e ({ frames := 8, cells := 0, slots := 0, locals := 480 } : Room) s m args below meth c s.heap [] 0 0 Q (F0 m 0 ls [])
  refine lv_aload_n hx hb dX7_isVersor_0 rfl (lv_at hl 0 rfl) ?_
  refine lv_iload_n hx hb dX7_isVersor_1 rfl (lv_at hl 1 rfl) ?_
  refine s_i (va_runS (As := [.int a]) (rest := [.ref (o 0)]) ⟨hx, hb, hml, hown, hts⟩ (x7_isRegister Z a) (va_cwS 1 hts (lw_S q2104 q2105 q107 q2106) rfl rfl rfl (by decide +kernel) ⟨Nat.le_of_ble_eq_true rfl, Nat.le_of_ble_eq_true rfl⟩) (gP_S hG hS (fun q _ h => h.elim) trivial) rfl rfl hl.1 rfl (lv_room (Nat.le_of_ble_eq_true rfl)) dX7_isVersor_2 ⟨by first | decide | omega, by first | decide | omega⟩) ?_
  refine lv_if_eq (tgt := 12) hx hb dX7_isVersor_5 (by decide) (fun c_5 => ?_) (fun c_5 => ?_)
  · have h_a := bI_0 c_5
    refine lv_iconst (v := nI 1) hx hb dX7_isVersor_12 (by decide) ?_
    refine va_put (D := (dC, dI)) (ci := 2) (v := .int (nI 1)) (ty := .int) (C := RX7) (T := TX7) (N := 27) hx hb hts in_X7 tyX7 tyX7_ok nmX7 hown hK hP hD hS 0 rfl rfl 0 (by decide) (hts _ q2006) (fun _ h9 => h9) rfl (by decide +kernel) rfl rfl (Nat.le_of_ble_eq_true rfl) dX7_isVersor_13 (fun H locs hP hD hS => ?_)
    have hP : va_P (dC, dI) vwCl [(o 0, .inr (2, mFs o (nI 1) p0 q0 r0 mu zz)), (o 5, .inl (dA 1, 2640, .inr (.inl fA))), (o 6, .inl (dA 1, 32, .inr (.inl fM)))] H := hP
    have hD : va_D A [(o 0, .inr (2, mFs o (nI 1) p0 q0 r0 mu zz)), (o 5, .inl (dA 1, 2640, .inr (.inl fA))), (o 6, .inl (dA 1, 32, .inr (.inl fM)))] := hD
    refine lv_aload_n hx hb dX7_isVersor_16 rfl (lv_at hl 0 rfl) ?_
    refine va_get (D := (dC, dI)) (ci := 2) (v := .int (nI 1)) (C := RX7) (T := TX7) (N := 27) hx hb hts in_X7 hown hK hP 0 rfl rfl 0 (by decide) (hts _ q2006) (fun _ h9 => h9) rfl dX7_isVersor_17 ?_
    refine lv_if_gt (tgt := 31) hx hb dX7_isVersor_20 (by decide) (fun c_20 => ?_) (fun c_20 => ?_)
    rotate_left
    · exact absurd (by decide) c_20
    refine lv_iconst (v := nI 0) hx hb dX7_isVersor_31 (by decide) ?_
    subst hQe
    exact W.zret (v := nI 0) hx hb hr rfl (fun t ht hW => ⟨⟨_, (fA, fM, mu, nI 1), rfl, ⟨(by simp [verX, rgB, blB, optC, h_a]), (fun k9 hk9 i9 hi9 => rfl)⟩, B1_at ht (hP.sub [0, 1, 2] rfl) (hD.sub [0, 1, 2] (by decide) rfl) trivial⟩, hS.F ht⟩) hS.2.2 dX7_isVersor_32
  · have h_a := bI_1 c_5
    obtain ⟨ja, hj_a, rfl⟩ := inB_nat (by decide) h_a
    refine lv_iconst (v := nI 0) hx hb dX7_isVersor_8 (by decide) ?_
    refine lv_goto (tgt := 13) hx hb dX7_isVersor_9 (by decide) ?_
    refine va_put (D := (dC, dI)) (ci := 2) (v := .int (nI 0)) (ty := .int) (C := RX7) (T := TX7) (N := 27) hx hb hts in_X7 tyX7 tyX7_ok nmX7 hown hK hP hD hS 0 rfl rfl 0 (by decide) (hts _ q2006) (fun _ h9 => h9) rfl (by decide +kernel) rfl rfl (Nat.le_of_ble_eq_true rfl) dX7_isVersor_13 (fun H locs hP hD hS => ?_)
    have hP : va_P (dC, dI) vwCl [(o 0, .inr (2, mFs o (nI 0) p0 q0 r0 mu zz)), (o 5, .inl (dA 1, 2640, .inr (.inl fA))), (o 6, .inl (dA 1, 32, .inr (.inl fM)))] H := hP
    have hD : va_D A [(o 0, .inr (2, mFs o (nI 0) p0 q0 r0 mu zz)), (o 5, .inl (dA 1, 2640, .inr (.inl fA))), (o 6, .inl (dA 1, 32, .inr (.inl fM)))] := hD
    refine lv_aload_n hx hb dX7_isVersor_16 rfl (lv_at hl 0 rfl) ?_
    refine va_get (D := (dC, dI)) (ci := 2) (v := .int (nI 0)) (C := RX7) (T := TX7) (N := 27) hx hb hts in_X7 hown hK hP 0 rfl rfl 0 (by decide) (hts _ q2006) (fun _ h9 => h9) rfl dX7_isVersor_17 ?_
    refine lv_if_gt (tgt := 31) hx hb dX7_isVersor_20 (by decide) (fun c_20 => ?_) (fun c_20 => ?_)
    · exact absurd c_20 (by decide)
    refine lv_aload_n hx hb dX7_isVersor_23 rfl (lv_at hl 0 rfl) ?_
    refine lv_iload_n hx hb dX7_isVersor_24 rfl (lv_at hl 1 rfl) ?_
    refine s_i (va_runV (As := [.int (nI ja)]) (rest := []) ⟨hx, hb, hml, hown, hts⟩ (x7_isMixed Z o (nI 0) p0 q0 r0 mu zz fA ja (Ms ja) (by omega) (hR ja (by omega))) (cwV 1 hts (lw_V q2269 q2271 qs58 q107 q2272) rfl rfl rfl (by decide +kernel) ⟨Nat.le_of_ble_eq_true rfl, Nat.le_of_ble_eq_true rfl⟩) (gP_V (va_recv hK hP (ci := 2) (q0 := 0) rfl rfl) hG hS (fun q _ h => h.elim) (hP.sub (ws' := [(o 0, .inr (2, mFs o (nI 0) p0 q0 r0 mu zz)), (o 5, .inl (dA 1, 2640, .inr (.inl fA)))]) [0, 1] rfl)) rfl rfl hl.1 rfl (lv_room (Nat.le_of_ble_eq_true rfl)) dX7_isVersor_25 ⟨by first | decide | omega, by first | decide | omega⟩) ?_
    refine lv_if_eq (tgt := 33) hx hb dX7_isVersor_28 (by decide) (fun c_28 => ?_) (fun c_28 => ?_)
    · have hb_28 := bI_0 c_28
      refine lv_aload_n hx hb dX7_isVersor_33 rfl (lv_at hl 0 rfl) ?_
      refine lv_iload_n hx hb dX7_isVersor_34 rfl (lv_at hl 1 rfl) ?_
      refine lv_bipush (v := nI 25) hx hb dX7_isVersor_35 (by decide) ?_
      have hF9 := va_free (wc := [(o 0, .inr (2, mFs o (nI 0) p0 q0 r0 mu zz)), (o 5, .inl (dA 1, 2640, .inr (.inl fA))), (o 6, .inl (dA 1, 32, .inr (.inl fM)))]) hD hS (fun q h => hA q h) [0, 1, 2] rfl
      refine c_i (wr := []) (va_runV (As := [.int (nI ja), .int (nI 25)]) (rest := []) ⟨hx, hb, hml, hown, hts⟩ (x7_laysSquare Z (va_A [(o 0, .inr (2, mFs o (nI 0) p0 q0 r0 mu zz)), (o 5, .inl (dA 1, 2640, .inr (.inl fA))), (o 6, .inl (dA 1, 32, .inr (.inl fM)))] H.size) H.size (fun q h => Or.inr h) o (nI 0) p0 q0 r0 mu zz fA fM ja 25 (Ms ja) (by omega) (by omega) (by omega) (by omega) (by omega) (hR ja (by omega)) (sR ja (by omega))) (cwV 2 hts (lw_V q2201 q2203 qs52 q107 q2204) rfl rfl rfl (by decide +kernel) ⟨Nat.le_of_ble_eq_true rfl, Nat.le_of_ble_eq_true rfl⟩) (gP_V (va_recv hK hP (ci := 2) (q0 := 0) rfl rfl) hG hS (fun q _ h => hF9 q h) ⟨rfl, (hP.sub (ws' := [(o 0, .inr (2, mFs o (nI 0) p0 q0 r0 mu zz)), (o 5, .inl (dA 1, 2640, .inr (.inl fA))), (o 6, .inl (dA 1, 32, .inr (.inl fM)))]) [0, 1, 2] rfl), (hD.sub (ws' := [(o 0, .inr (2, mFs o (nI 0) p0 q0 r0 mu zz)), (o 5, .inl (dA 1, 2640, .inr (.inl fA))), (o 6, .inl (dA 1, 32, .inr (.inl fM)))]) [0, 1, 2] (by decide) rfl).self⟩) rfl rfl hl.1 rfl (lv_room (Nat.le_of_ble_eq_true rfl)) dX7_isVersor_37 ⟨by first | decide | omega, by first | decide | omega⟩) hP hD hS hA [0, 1, 2] [] rfl rfl (by decide) (by decide) (fun r9 u9 H locs hq hX hz hk hP hD hS => ?_)
      obtain ⟨fA_1, fM_2, mu_3⟩ := u9
      obtain ⟨r_4, rfl⟩ : ∃ z, z = r9 := ⟨_, rfl⟩
      have hq_5 := hq
      try dsimp only at hq_5
      have hP : va_P (dC, dI) vwCl [(o 0, .inr (2, mFs o (nI 0) p0 q0 r0 mu_3 zz)), (o 5, .inl (dA 1, 2640, .inr (.inl fA_1))), (o 6, .inl (dA 1, 32, .inr (.inl fM_2)))] H := hP
      have hD : va_D A [(o 0, .inr (2, mFs o (nI 0) p0 q0 r0 mu_3 zz)), (o 5, .inl (dA 1, 2640, .inr (.inl fA_1))), (o 6, .inl (dA 1, 32, .inr (.inl fM_2)))] := hD
      obtain ⟨hR_6, hq_5⟩ := hq_5
      have smR_6 := trnS_sm (op := 0) (p := p0) (q := q0) (r := r0) (by omega) (sR ja (by omega))
      rcases hq_5 with ⟨P_6, e_6, rfl, hH_6, hS_6⟩ | ⟨e_6, rfl, hE_6⟩
      · have sm_7 : MSm P_6 := mulS_sm (sR ja (by omega)) smR_6 e_6
        have hh_8 := hS_6.hold (k := ja) (by omega) (hR ja (by omega))
        refine lv_if_ne (tgt := 50) hx hb dX7_isVersor_40 (by decide) (fun c_40 => ?_) (fun c_40 => ?_)
        rotate_left
        · exact absurd c_40 (by decide)
        refine lv_aload_n hx hb dX7_isVersor_50 rfl (lv_at hl 0 rfl) ?_
        refine lv_bipush (v := nI 25) hx hb dX7_isVersor_51 (by decide) ?_
        refine s_i (va_runV (As := [.int (nI 25)]) (rest := []) ⟨hx, hb, hml, hown, hts⟩ (x7_isNumber Z o (nI 0) p0 q0 r0 mu_3 zz fA_1 25 P_6 (by omega) hH_6) (cwV 1 hts (lw_V q2205 q2207 qs53 q107 q2208) rfl rfl rfl (by decide +kernel) ⟨Nat.le_of_ble_eq_true rfl, Nat.le_of_ble_eq_true rfl⟩) (gP_V (va_recv hK hP (ci := 2) (q0 := 0) rfl rfl) hG hS (fun q _ h => h.elim) (hP.sub (ws' := [(o 0, .inr (2, mFs o (nI 0) p0 q0 r0 mu_3 zz)), (o 5, .inl (dA 1, 2640, .inr (.inl fA_1)))]) [0, 1] rfl)) rfl rfl hl.1 rfl (lv_room (Nat.le_of_ble_eq_true rfl)) dX7_isVersor_53 ⟨by first | decide | omega, by first | decide | omega⟩) ?_
        refine lv_istore_n (lv' := [(2, .int (bI (isNumB P_6 32))), (0, .ref (o 0)), (1, .int (nI ja))]) hx hb dX7_isVersor_56 rfl hl (by decide) rfl (fun ls hl => ?_)
        refine lv_iconst (v := nI 0) hx hb dX7_isVersor_57 (by decide) ?_
        refine lv_istore_n (lv' := [(3, .int (nI 0)), (2, .int (bI (isNumB P_6 32))), (0, .ref (o 0)), (1, .int (nI ja))]) hx hb dX7_isVersor_58 rfl hl (by decide) rfl (fun ls hl => ?_)
        have loop_9 : ∀ (n9_9 : Nat) (k : Nat) (b : Bool) (fB : Nat → Int64) (fN : Nat → Int64) (mv : Int64) (H : Heap) (locs : List Loc) (ls : Array Slot), p0 + q0 + r0 - k < n9_9 → (k ≤ p0 + q0 + r0) → (verN p0 q0 r0 (Ms ja) P_6 k = some b) → (Hold fB 31 (revS p0 q0 r0 (Ms ja))) → (Kp fA fB outH) → va_P (dC, dI) vwCl [(o 0, .inr (2, mFs o (nI 0) p0 q0 r0 mv zz)), (o 5, .inl (dA 1, 2640, .inr (.inl fB))), (o 6, .inl (dA 1, 32, .inr (.inl fN)))] H → va_D A [(o 0, .inr (2, mFs o (nI 0) p0 q0 r0 mv zz)), (o 5, .inl (dA 1, 2640, .inr (.inl fB))), (o 6, .inl (dA 1, 32, .inr (.inl fN)))] → va_S A s.heap H locs → lv_has ls 4 [(0, .ref (o 0)), (1, .int (nI ja)), (2, .int (bI b)), (3, .int (nI k))] → W p l e ({ frames := 8, cells := 0, slots := 0, locals := 480 } : Room) s m args below meth c H locs 0 0 Q (F0 m 59 ls []) := by
          intro n9_9
          induction n9_9 with
          | zero => intro k b fB fN mv H locs ls hm_9; exact absurd hm_9 (Nat.not_lt_zero _)
          | succ n9_9 ih_9 =>
            intro k b fB fN mv H locs ls hm_9 hk9 hv9 hr9 kp9 hP hD hS hl
            refine lv_iload_n hx hb dX7_isVersor_59 rfl (lv_at hl 3 rfl) ?_
            refine lv_aload_n hx hb dX7_isVersor_60 rfl (lv_at hl 0 rfl) ?_
            refine s_i (va_runV (As := []) (rest := [.int (nI k)]) ⟨hx, hb, hml, hown, hts⟩ (x7_n Z o (nI 0) p0 q0 r0 mv zz) (cwV 0 hts (lw_V q2151 q2153 qs44 q107 q2154) rfl rfl rfl (by decide +kernel) ⟨Nat.le_of_ble_eq_true rfl, Nat.le_of_ble_eq_true rfl⟩) (gP_V (va_recv hK hP (ci := 2) (q0 := 0) rfl rfl) hG hS (fun q _ h => h.elim) (hP.sub (ws' := [(o 0, .inr (2, mFs o (nI 0) p0 q0 r0 mv zz))]) [0] rfl)) rfl rfl hl.1 rfl (lv_room (Nat.le_of_ble_eq_true rfl)) dX7_isVersor_61 ⟨by first | decide | omega, by first | decide | omega⟩) ?_
            refine lv_icmp_ge (tgt := 122) hx hb dX7_isVersor_64 (by decide) (fun c_64 => ?_) (fun c_64 => ?_)
            · have c_64 : (p0 + q0 + r0) ≤ k := (nI_leI (a := (p0 + q0 + r0)) (b := k) (by omega) (by omega)).mp c_64
              obtain rfl : k = p0 + q0 + r0 := by omega
              refine lv_iload_n hx hb dX7_isVersor_122 rfl (lv_at hl 2 rfl) ?_
              subst hQe
              exact W.zret (v := bI b) hx hb hr (bI_z _) (fun t ht hW => ⟨⟨_, (fB, fN, mv, (nI 0)), rfl, ⟨(by simp [verX, rgB, blB, optC, h_a, hb_28, e_6, hv9, rg_n (show ja < 8 by omega), nI_clamp (show ja < 2 ^ 31 by omega)]), (fun k9 hk9 i9 hi9 => by (try dsimp only [outH] at hk9); show fB (33 * k9 + i9) = fA (33 * k9 + i9); rw [kp9 k9 (by omega) i9 hi9])⟩, B1_at ht (hP.sub [0, 1, 2] rfl) (hD.sub [0, 1, 2] (by decide) rfl) trivial⟩, hS.F ht⟩) hS.2.2 dX7_isVersor_123
            · have c_64 : ¬ (p0 + q0 + r0) ≤ k := fun h => c_64 ((nI_leI (a := (p0 + q0 + r0)) (b := k) (by omega) (by omega)).mpr h)
              refine lv_iload_n hx hb dX7_isVersor_67 rfl (lv_at hl 2 rfl) ?_
              refine lv_if_eq (tgt := 122) hx hb dX7_isVersor_68 (by decide) (fun c_68 => ?_) (fun c_68 => ?_)
              · have hb9 := bI_0 c_68
                subst hb9
                have hv8 := verN_f hv9 hk9
                refine lv_iload_n hx hb dX7_isVersor_122 rfl (lv_at hl 2 rfl) ?_
                subst hQe
                exact W.zret (v := bI false) hx hb hr (bI_z _) (fun t ht hW => ⟨⟨_, (fB, fN, mv, (nI 0)), rfl, ⟨(by simp [verX, rgB, h_a, hb_28, e_6, hv8, rg_n (show ja < 8 by omega)]), (fun k9 hk9 i9 hi9 => by (try dsimp only [outH] at hk9); show fB (33 * k9 + i9) = fA (33 * k9 + i9); rw [kp9 k9 (by omega) i9 hi9])⟩, B1_at ht (hP.sub [0, 1, 2] rfl) (hD.sub [0, 1, 2] (by decide) rfl) trivial⟩, hS.F ht⟩) hS.2.2 dX7_isVersor_123
              · have hb9 := bI_1 c_68
                refine lv_aload_n hx hb dX7_isVersor_71 rfl (lv_at hl 0 rfl) ?_
                refine lv_bipush (v := nI 29) hx hb dX7_isVersor_72 (by decide) ?_
                have hF9 := va_free (wc := [(o 0, .inr (2, mFs o (nI 0) p0 q0 r0 mv zz)), (o 5, .inl (dA 1, 2640, .inr (.inl fB)))]) hD hS (fun q h => hA q h) [0, 1] rfl
                refine c_v (wr := [(o 6, .inl (dA 1, 32, .inr (.inl fN)))]) (va_runV (As := [.int (nI 29)]) (rest := []) ⟨hx, hb, hml, hown, hts⟩ (x7_empties Z (va_A [(o 0, .inr (2, mFs o (nI 0) p0 q0 r0 mv zz)), (o 5, .inl (dA 1, 2640, .inr (.inl fB)))] H.size) H.size (fun q h => Or.inr h) o (nI 0) p0 q0 r0 mv zz fB fN 29 (by omega)) (cwV 1 hts (lw_V q2221 q2223 qs54 q107 q2224) rfl rfl rfl (by decide +kernel) ⟨Nat.le_of_ble_eq_true rfl, Nat.le_of_ble_eq_true rfl⟩) (gP_V (va_recv hK hP (ci := 2) (q0 := 0) rfl rfl) hG hS (fun q _ h => hF9 q h) ⟨rfl, (hP.sub (ws' := [(o 0, .inr (2, mFs o (nI 0) p0 q0 r0 mv zz)), (o 5, .inl (dA 1, 2640, .inr (.inl fB)))]) [0, 1] rfl), (hD.sub (ws' := [(o 0, .inr (2, mFs o (nI 0) p0 q0 r0 mv zz)), (o 5, .inl (dA 1, 2640, .inr (.inl fB)))]) [0, 1] (by decide) rfl).self⟩) rfl rfl hl.1 rfl (lv_room (Nat.le_of_ble_eq_true rfl)) dX7_isVersor_74 ⟨by first | decide | omega, by first | decide | omega⟩) hP hD hS hA [0, 1] [2] rfl rfl (by decide) (by decide) (fun u9 H locs hq hX hz hk hP hD hS => ?_)
                obtain ⟨fA_10, rfl⟩ : ∃ z, z = u9 := ⟨_, rfl⟩
                have hq_11 := hq
                have hP : va_P (dC, dI) vwCl [(o 6, .inl (dA 1, 32, .inr (.inl fN))), (o 0, .inr (2, mFs o (nI 0) p0 q0 r0 mv zz)), (o 5, .inl (dA 1, 2640, .inr (.inl fA_10)))] H := hP
                have hD : va_D A [(o 6, .inl (dA 1, 32, .inr (.inl fN))), (o 0, .inr (2, mFs o (nI 0) p0 q0 r0 mv zz)), (o 5, .inl (dA 1, 2640, .inr (.inl fA_10)))] := hD
                obtain ⟨hH_k_12, hS_k_12⟩ := hq_11
                have hh_13 := hS_k_12.hold (j := 31) (by omega) hr9
                have hh_14 := hS_k_12.hold (j := ja) (by omega) (kp9.hold (k := ja) (by omega) (hR ja (by omega)))
                refine lv_aload_n hx hb dX7_isVersor_77 rfl (lv_at hl 0 rfl) ?_
                refine va_get (D := (dC, dI)) (ci := 2) (v := .ref (o 5)) (C := RX7) (T := TX7) (N := 27) hx hb hts in_X7 hown hK hP 1 rfl rfl 8 (by decide) (hts _ q2014) (fun _ h9 => h9) rfl dX7_isVersor_78 ?_
                refine lv_sipush (v := nI 958) hx hb dX7_isVersor_81 (by decide) ?_
                refine lv_iconst (v := nI 1) hx hb dX7_isVersor_84 (by decide) ?_
                refine lv_iload_n hx hb dX7_isVersor_85 rfl (lv_at hl 3 rfl) ?_
                refine lv_ishl hx hb dX7_isVersor_86 ?_
                refine e_i (y := nI (2 ^ k)) (n_shl1 (by omega)) ?_
                refine lv_iadd hx hb dX7_isVersor_87 ?_
                refine e_i (y := nI (958 + (2 ^ k))) (nI_add _ _) ?_
                refine lv_lconst (v := 1) hx hb dX7_isVersor_88 rfl ?_
                refine a_last hx hb hK hP hD hS 2 1 rfl rfl (by have := p5 (k := k) (by omega); omega) (by omega) dX7_isVersor_89 (fun H locs hP hD hS => ?_)
                have hP : va_P (dC, dI) vwCl [(o 6, .inl (dA 1, 32, .inr (.inl fN))), (o 0, .inr (2, mFs o (nI 0) p0 q0 r0 mv zz)), (o 5, .inl (dA 1, 2640, .inr (.inl (vp_updL fA_10 (958 + (2 ^ k)) 1))))] H := hP
                have hD : va_D A [(o 6, .inl (dA 1, 32, .inr (.inl fN))), (o 0, .inr (2, mFs o (nI 0) p0 q0 r0 mv zz)), (o 5, .inl (dA 1, 2640, .inr (.inl (vp_updL fA_10 (958 + (2 ^ k)) 1))))] := hD
                have hh_16 := bas_hold (b := 2 ^ k) (p5 (by omega)) hH_k_12
                have hs_17 := up_same (f := fA_10) (k := 29) (n := 958 + 2 ^ k) (x := 1) (by have := p5 (k := k) (by omega); have := Nat.two_pow_pos k; omega)
                generalize vp_updL fA_10 (958 + (2 ^ k)) 1 = fA_15 at hP hD hh_16 hs_17
                have hh_18 := hs_17.hold (j := 31) (by omega) hh_13
                have hh_19 := hs_17.hold (j := ja) (by omega) hh_14
                refine lv_aload_n hx hb dX7_isVersor_90 rfl (lv_at hl 0 rfl) ?_
                refine lv_iload_n hx hb dX7_isVersor_91 rfl (lv_at hl 1 rfl) ?_
                refine lv_bipush (v := nI 29) hx hb dX7_isVersor_92 (by decide) ?_
                refine lv_bipush (v := nI 28) hx hb dX7_isVersor_94 (by decide) ?_
                have hF9 := va_free (wc := [(o 0, .inr (2, mFs o (nI 0) p0 q0 r0 mv zz)), (o 5, .inl (dA 1, 2640, .inr (.inl fA_15))), (o 6, .inl (dA 1, 32, .inr (.inl fN)))]) hD hS (fun q h => hA q h) [1, 2, 0] rfl
                refine c_i (wr := []) (va_runV (As := [.int (nI ja), .int (nI 29), .int (nI 28)]) (rest := []) ⟨hx, hb, hml, hown, hts⟩ (x7_sandwiches Z (va_A [(o 0, .inr (2, mFs o (nI 0) p0 q0 r0 mv zz)), (o 5, .inl (dA 1, 2640, .inr (.inl fA_15))), (o 6, .inl (dA 1, 32, .inr (.inl fN)))] H.size) H.size (fun q h => Or.inr h) o (nI 0) p0 q0 r0 mv zz fA_15 fN ja 29 28 (Ms ja) (basM (2 ^ k)) (by omega) (by omega) (by omega) (by omega) (by omega) (by omega) (by omega) (by omega) (by omega) hh_19 hh_16 hh_18 (sR ja (by omega)) (basM_sm _)) (cwV 3 hts (lw_V q2277 q2279 qs60 q107 q2280) rfl rfl rfl (by decide +kernel) ⟨Nat.le_of_ble_eq_true rfl, Nat.le_of_ble_eq_true rfl⟩) (gP_V (va_recv hK hP (ci := 2) (q0 := 1) rfl rfl) hG hS (fun q _ h => hF9 q h) ⟨rfl, (hP.sub (ws' := [(o 0, .inr (2, mFs o (nI 0) p0 q0 r0 mv zz)), (o 5, .inl (dA 1, 2640, .inr (.inl fA_15))), (o 6, .inl (dA 1, 32, .inr (.inl fN)))]) [1, 2, 0] rfl), (hD.sub (ws' := [(o 0, .inr (2, mFs o (nI 0) p0 q0 r0 mv zz)), (o 5, .inl (dA 1, 2640, .inr (.inl fA_15))), (o 6, .inl (dA 1, 32, .inr (.inl fN)))]) [1, 2, 0] (by decide) rfl).self⟩) rfl rfl hl.1 rfl (lv_room (Nat.le_of_ble_eq_true rfl)) dX7_isVersor_96 ⟨by first | decide | omega, by first | decide | omega⟩) hP hD hS hA [1, 2, 0] [] rfl rfl (by decide) (by decide) (fun r9 u9 H locs hq hX hz hk hP hD hS => ?_)
                obtain ⟨fA_20, fM_21, mu_22⟩ := u9
                obtain ⟨r_23, rfl⟩ : ∃ z, z = r9 := ⟨_, rfl⟩
                have hq_24 := hq
                try dsimp only at hq_24
                have hP : va_P (dC, dI) vwCl [(o 0, .inr (2, mFs o (nI 0) p0 q0 r0 mu_22 zz)), (o 5, .inl (dA 1, 2640, .inr (.inl fA_20))), (o 6, .inl (dA 1, 32, .inr (.inl fM_21)))] H := hP
                have hD : va_D A [(o 0, .inr (2, mFs o (nI 0) p0 q0 r0 mu_22 zz)), (o 5, .inl (dA 1, 2640, .inr (.inl fA_20))), (o 6, .inl (dA 1, 32, .inr (.inl fM_21)))] := hD
                rcases hq_24 with ⟨P_25, e_25, rfl, hH_25, hS_25⟩ | ⟨e_25, rfl, hE_25⟩
                · have sm_26 : MSm P_25 := sndS_sm (by omega) (sR ja (by omega)) (basM_sm _) e_25
                  have hh_27 := hS_25.hold (k := 31) (by omega) hh_18
                  have hh_28 := hS_25.hold (k := ja) (by omega) hh_19
                  have hh_29 := hS_25.hold (k := 29) (by omega) hh_16
                  refine lv_if_ne (tgt := 109) hx hb dX7_isVersor_99 (by decide) (fun c_99 => ?_) (fun c_99 => ?_)
                  rotate_left
                  · exact absurd c_99 (by decide)
                  refine lv_aload_n hx hb dX7_isVersor_109 rfl (lv_at hl 0 rfl) ?_
                  refine lv_bipush (v := nI 28) hx hb dX7_isVersor_110 (by decide) ?_
                  refine s_i (va_runV (As := [.int (nI 28)]) (rest := []) ⟨hx, hb, hml, hown, hts⟩ (x7_isVector Z o (nI 0) p0 q0 r0 mu_22 zz fA_20 28 P_25 (by omega) hH_25) (cwV 1 hts (lw_V q2285 q2287 qs61 q107 q2288) rfl rfl rfl (by decide +kernel) ⟨Nat.le_of_ble_eq_true rfl, Nat.le_of_ble_eq_true rfl⟩) (gP_V (va_recv hK hP (ci := 2) (q0 := 0) rfl rfl) hG hS (fun q _ h => h.elim) (hP.sub (ws' := [(o 0, .inr (2, mFs o (nI 0) p0 q0 r0 mu_22 zz)), (o 5, .inl (dA 1, 2640, .inr (.inl fA_20)))]) [0, 1] rfl)) rfl rfl hl.1 rfl (lv_room (Nat.le_of_ble_eq_true rfl)) dX7_isVersor_112 ⟨by first | decide | omega, by first | decide | omega⟩) ?_
                  refine lv_istore_n (lv' := [(2, .int (bI (vecB P_25))), (0, .ref (o 0)), (1, .int (nI ja)), (3, .int (nI k))]) hx hb dX7_isVersor_115 rfl hl (by decide) rfl (fun ls hl => ?_)
                  refine lv_iinc (v := nI (k + 1)) (lv' := [(3, .int (nI (k + 1))), (2, .int (bI (vecB P_25))), (0, .ref (o 0)), (1, .int (nI ja))]) hx hb dX7_isVersor_116 hl (k := 3) rfl (by exact nI_add _ 1) (by decide) rfl (fun ls hl => ?_)
                  refine lv_goto (tgt := 59) hx hb dX7_isVersor_119 (by decide) ?_
                  exact ih_9 (k + 1) (vecB P_25) fA_20 fM_21 mu_22 H locs ls (by omega) (by omega) (by show (match verN p0 q0 r0 (Ms ja) P_6 k with | none => none | some false => some false | some true => match sndS p0 q0 r0 (Ms ja) (basM (2 ^ k)) with | none => none | some T => some (vecB T)) = _; rw [hv9, hb9, show sndS p0 q0 r0 (Ms ja) (basM (2 ^ k)) = some P_25 from e_25]) hh_27 (fun k9 hk9 i9 hi9 => by (try dsimp only [outH] at hk9); show fA_20 (33 * k9 + i9) = fA (33 * k9 + i9); rw [hS_25 k9 (by omega) i9 hi9, hs_17 _ (by omega), hS_k_12 _ (by omega), kp9 k9 (by omega) i9 hi9]) (hP.sub [0, 1, 2] rfl) (hD.sub [0, 1, 2] (by decide) rfl) hS (lv_sub hl [2, 3, 1, 0] rfl)
                · have hh_30 := hE_25.hold (k := 31) (by omega) hh_18
                  have hh_31 := hE_25.hold (k := ja) (by omega) hh_19
                  have hh_32 := hE_25.hold (k := 29) (by omega) hh_16
                  refine lv_if_ne (tgt := 109) hx hb dX7_isVersor_99 (by decide) (fun c_99 => ?_) (fun c_99 => ?_)
                  · exact absurd (by decide) c_99
                  refine lv_aload_n hx hb dX7_isVersor_102 rfl (lv_at hl 0 rfl) ?_
                  refine lv_iconst (v := nI 2) hx hb dX7_isVersor_103 (by decide) ?_
                  refine va_put (D := (dC, dI)) (ci := 2) (v := .int (nI 2)) (ty := .int) (C := RX7) (T := TX7) (N := 27) hx hb hts in_X7 tyX7 tyX7_ok nmX7 hown hK hP hD hS 0 rfl rfl 0 (by decide) (hts _ q2006) (fun _ h9 => h9) rfl (by decide +kernel) rfl rfl (Nat.le_of_ble_eq_true rfl) dX7_isVersor_104 (fun H locs hP hD hS => ?_)
                  have hP : va_P (dC, dI) vwCl [(o 0, .inr (2, mFs o (nI 2) p0 q0 r0 mu_22 zz)), (o 5, .inl (dA 1, 2640, .inr (.inl fA_20))), (o 6, .inl (dA 1, 32, .inr (.inl fM_21)))] H := hP
                  have hD : va_D A [(o 0, .inr (2, mFs o (nI 2) p0 q0 r0 mu_22 zz)), (o 5, .inl (dA 1, 2640, .inr (.inl fA_20))), (o 6, .inl (dA 1, 32, .inr (.inl fM_21)))] := hD
                  refine lv_iconst (v := nI 0) hx hb dX7_isVersor_107 (by decide) ?_
                  subst hQe
                  exact W.zret (v := nI 0) hx hb hr rfl (fun t ht hW => ⟨⟨_, (fA_20, fM_21, mu_22, nI 2), rfl, ⟨(by have hv8 := verN_n (m := p0 + q0 + r0) (show verN p0 q0 r0 (Ms ja) P_6 (k + 1) = none from by show (match verN p0 q0 r0 (Ms ja) P_6 k with | none => none | some false => some false | some true => match sndS p0 q0 r0 (Ms ja) (basM (2 ^ k)) with | none => none | some T => some (vecB T)) = _; rw [hv9, hb9, show sndS p0 q0 r0 (Ms ja) (basM (2 ^ k)) = none from e_25]) (by omega); simp [verX, rgB, hv8, h_a, hb_28, e_6, rg_n (show ja < 8 by omega)]), (fun k9 hk9 i9 hi9 => by (try dsimp only [outH] at hk9); show fA_20 (33 * k9 + i9) = fA (33 * k9 + i9); rw [hE_25 k9 (by omega) i9 hi9, hs_17 _ (by omega), hS_k_12 _ (by omega), kp9 k9 (by omega) i9 hi9])⟩, B1_at ht (hP.sub [0, 1, 2] rfl) (hD.sub [0, 1, 2] (by decide) rfl) trivial⟩, hS.F ht⟩) hS.2.2 dX7_isVersor_108
        exact loop_9 _ 0 (isNumB P_6 32) fA_1 fM_2 mu_3 H locs ls (Nat.lt_succ_self _) (by omega) rfl hR_6 (fun k9 hk9 i9 hi9 => by (try dsimp only [outH] at hk9); show fA_1 (33 * k9 + i9) = fA (33 * k9 + i9); rw [hS_6 k9 (by omega) i9 hi9]) hP hD hS (lv_sub hl [2, 3, 1, 0] rfl)
      · have hh_33 := hE_6.hold (k := ja) (by omega) (hR ja (by omega))
        refine lv_if_ne (tgt := 50) hx hb dX7_isVersor_40 (by decide) (fun c_40 => ?_) (fun c_40 => ?_)
        · exact absurd (by decide) c_40
        refine lv_aload_n hx hb dX7_isVersor_43 rfl (lv_at hl 0 rfl) ?_
        refine lv_iconst (v := nI 2) hx hb dX7_isVersor_44 (by decide) ?_
        refine va_put (D := (dC, dI)) (ci := 2) (v := .int (nI 2)) (ty := .int) (C := RX7) (T := TX7) (N := 27) hx hb hts in_X7 tyX7 tyX7_ok nmX7 hown hK hP hD hS 0 rfl rfl 0 (by decide) (hts _ q2006) (fun _ h9 => h9) rfl (by decide +kernel) rfl rfl (Nat.le_of_ble_eq_true rfl) dX7_isVersor_45 (fun H locs hP hD hS => ?_)
        have hP : va_P (dC, dI) vwCl [(o 0, .inr (2, mFs o (nI 2) p0 q0 r0 mu_3 zz)), (o 5, .inl (dA 1, 2640, .inr (.inl fA_1))), (o 6, .inl (dA 1, 32, .inr (.inl fM_2)))] H := hP
        have hD : va_D A [(o 0, .inr (2, mFs o (nI 2) p0 q0 r0 mu_3 zz)), (o 5, .inl (dA 1, 2640, .inr (.inl fA_1))), (o 6, .inl (dA 1, 32, .inr (.inl fM_2)))] := hD
        refine lv_iconst (v := nI 0) hx hb dX7_isVersor_48 (by decide) ?_
        subst hQe
        exact W.zret (v := nI 0) hx hb hr rfl (fun t ht hW => ⟨⟨_, (fA_1, fM_2, mu_3, nI 2), rfl, ⟨(by simp [verX, rgB, blB, optC, h_a, hb_28, e_6, rg_n (show ja < 8 by omega), nI_clamp (show ja < 2 ^ 31 by omega)]), (fun k9 hk9 i9 hi9 => by (try dsimp only [outH] at hk9); show fA_1 (33 * k9 + i9) = fA (33 * k9 + i9); rw [hE_6 k9 (by omega) i9 hi9])⟩, B1_at ht (hP.sub [0, 1, 2] rfl) (hD.sub [0, 1, 2] (by decide) rfl) trivial⟩, hS.F ht⟩) hS.2.2 dX7_isVersor_49
    · have hb_28 := bI_1 c_28
      refine lv_iconst (v := nI 0) hx hb dX7_isVersor_31 (by decide) ?_
      subst hQe
      exact W.zret (v := nI 0) hx hb hr rfl (fun t ht hW => ⟨⟨_, (fA, fM, mu, nI 0), rfl, ⟨(by simp [verX, rgB, blB, optC, h_a, hb_28, rg_n (show ja < 8 by omega), nI_clamp (show ja < 2 ^ 31 by omega)]), (fun k9 hk9 i9 hi9 => rfl)⟩, B1_at ht (hP.sub [0, 1, 2] rfl) (hD.sub [0, 1, 2] (by decide) rfl) trivial⟩, hS.F ht⟩) hS.2.2 dX7_isVersor_32
set_option maxHeartbeats 4000000 in
theorem x7_factor {l : Launch} {dC : Nat → ClassId} {dI : Nat → Nat → Nat} {dA : Nat → ClassId} {s0 : State} {b0 : Addr} (Z : Z0 l dC dI dA s0 b0) (A : Nat → Prop) (sz : Nat) (hA : ∀ q : Nat, sz ≤ q → A q) (o : Nat → Nat) (th : Int32) (p0 q0 r0 : Nat) (mu : Int64) (zz : Nat → Int32) (fA fM : Nat → Int64) (Ms : Nat → MV) (t : Int32) (a : Int32) (i : Int32) (hn : p0 + q0 + r0 ≤ 5) (hR : ∀ k, k < 8 → Hold fA k (Ms k)) (sR : ∀ k, k < 8 → MSm (Ms k)) (spR : ∀ k, k < 8 → MSp (2 ^ (p0 + q0 + r0)) (Ms k)) : Met l yX7_factor (ws_ yX7_factor cX7_factor 11 (some .int)) ({ frames := 7, cells := 0, slots := 0, locals := 420 } : Room) (gP [.ref (o 0), .int t, .int a, .int i] s0 A (fun H => H.size = sz ∧ va_P (dC, dI) vwCl [(o 0, .inr (2, mFs o th p0 q0 r0 mu zz)), (o 5, .inl (dA 1, 2640, .inr (.inl fA))), (o 6, .inl (dA 1, 32, .inr (.inl fM)))] H ∧ va_D A [(o 0, .inr (2, mFs o th p0 q0 r0 mu zz)), (o 5, .inl (dA 1, 2640, .inr (.inl fA))), (o 6, .inl (dA 1, 32, .inr (.inl fM)))])) (va_Qi (S := (Nat → Int64) × (Nat → Int64) × Int64 × Int32) (fun r u => ModPost fA (rg t) (facX p0 q0 r0 Ms t a i) u.2.2.2 r u.1) (B1 (dC, dI) A (fun u => mC dA o u.2.2.2 p0 q0 r0 u.2.2.1 zz u.1 u.2.1) (fun _ _ => True)) A) 0 0 A := by
  refine Met.ofW (cc := cX7_factor) (maxL := 11) (ret := (some .int)) (by decide) rfl ?_
  intro p e s m args below meth c s₁ B hml hv
  obtain ⟨hav, hG, hsz, hP, hD⟩ := hv
  have hx := B.exec
  have hb := B.bytes
  have hr := B.returns
  have hts := atoms_spec (ws := (ws_ yX7_factor cX7_factor 11 (some .int))) B.pre
  have hts : ∀ w ∈ lw_all, w.before _ s = true := fun w h => hts w (List.mem_cons_of_mem _ h)
  have hown : s.vm.findClass RX7 = some m.cls := findClass_of_methodNamed B.named
  have hlocks := B.notSynchronized
  have hK := hG.K Z
  subst hsz
  have hS : va_S A s.heap s.heap [] := va_S.rf
  have hl := lv_entry ([.ref (o 0), .int t, .int a, .int i]) (n := 11) (Nat.le_of_ble_eq_true rfl)
  rw [show entryFrame m args 11 = entryFrame m ([.ref (o 0), .int t, .int a, .int i] : List Value).toArray 11 from by rw [hav], lg_entry_eq]
  generalize (lg_sl ([.ref (o 0), .int t, .int a, .int i]) ++ List.replicate (11 - (lg_sl ([.ref (o 0), .int t, .int a, .int i])).length) Slot.unset).toArray = ls at hl ⊢
  have hl : lv_has ls 11 [(0, .ref (o 0)), (1, .int t), (2, .int a), (3, .int i)] := hl
  generalize hQe : MQ below _ _ s _ _ _ = Q
  change W p l e ({ frames := 7, cells := 0, slots := 0, locals := 420 } : Room) s m args below meth c s.heap [] 0 0 Q (F0 m 0 ls [])
  have h5 := pow5 hn
  refine lv_iload_n hx hb dX7_factor_0 rfl (lv_at hl 1 rfl) ?_
  refine s_i (va_runS (As := [.int t]) (rest := []) ⟨hx, hb, hml, hown, hts⟩ (x7_isRegister Z t) (va_cwS 1 hts (lw_S q2104 q2105 q107 q2106) rfl rfl rfl (by decide +kernel) ⟨Nat.le_of_ble_eq_true rfl, Nat.le_of_ble_eq_true rfl⟩) (gP_S hG hS (fun q _ h => h.elim) trivial) rfl rfl hl.1 rfl (lv_room (Nat.le_of_ble_eq_true rfl)) dX7_factor_1 ⟨by first | decide | omega, by first | decide | omega⟩) ?_
  refine lv_if_eq (tgt := 14) hx hb dX7_factor_4 (by decide) (fun c_4 => ?_) (fun c_4 => ?_)
  · have h_t := bI_0 c_4
    refine lv_aload_n hx hb dX7_factor_14 rfl (lv_at hl 0 rfl) ?_
    refine lv_iconst (v := nI 1) hx hb dX7_factor_15 (by decide) ?_
    have hF9 := va_free (wc := [(o 0, .inr (2, mFs o th p0 q0 r0 mu zz))]) hD hS (fun q h => hA q h) [0] rfl
    refine c_i (wr := [(o 5, .inl (dA 1, 2640, .inr (.inl fA))), (o 6, .inl (dA 1, 32, .inr (.inl fM)))]) (va_runV (As := [.int (nI 1)]) (rest := []) ⟨hx, hb, hml, hown, hts⟩ (x7_refuses Z (va_A [(o 0, .inr (2, mFs o th p0 q0 r0 mu zz))] s.heap.size) s.heap.size (fun q h => Or.inr h) o th p0 q0 r0 mu zz (nI 1)) (cwV 1 hts (lw_V q2100 q2102 qs34 q107 q2103) rfl rfl rfl (by decide +kernel) ⟨Nat.le_of_ble_eq_true rfl, Nat.le_of_ble_eq_true rfl⟩) (gP_V (va_recv hK hP (ci := 2) (q0 := 0) rfl rfl) hG hS (fun q _ h => hF9 q h) ⟨rfl, (hP.sub (ws' := [(o 0, .inr (2, mFs o th p0 q0 r0 mu zz))]) [0] rfl), (hD.sub (ws' := [(o 0, .inr (2, mFs o th p0 q0 r0 mu zz))]) [0] (by decide) rfl).self⟩) rfl rfl hl.1 rfl (lv_room (Nat.le_of_ble_eq_true rfl)) dX7_factor_16 ⟨by first | decide | omega, by first | decide | omega⟩) hP hD hS hA [0] [1, 2] rfl rfl (by decide) (by decide) (fun r9 u9 H locs hq hX hz hk hP hD hS => ?_)
    obtain ⟨r_1, rfl⟩ : ∃ z, z = r9 := ⟨_, rfl⟩
    obtain rfl := hq
    have hP : va_P (dC, dI) vwCl [(o 5, .inl (dA 1, 2640, .inr (.inl fA))), (o 6, .inl (dA 1, 32, .inr (.inl fM))), (o 0, .inr (2, mFs o (nI 1) p0 q0 r0 mu zz))] H := hP
    have hD : va_D A [(o 5, .inl (dA 1, 2640, .inr (.inl fA))), (o 6, .inl (dA 1, 32, .inr (.inl fM))), (o 0, .inr (2, mFs o (nI 1) p0 q0 r0 mu zz))] := hD
    subst hQe
    exact W.iret (v := nI 0) hx hb hr (fun t ht hW => ⟨⟨_, (fA, fM, mu, nI 1), rfl, ModPost.mk0 (c := nI 1) (by simp [facX, rgB, optC, h_t]) (fun k9 hk9 i9 hi9 => rfl), B1_at ht (hP.sub [2, 0, 1] rfl) (hD.sub [2, 0, 1] (by decide) rfl) trivial⟩, hS.F ht⟩) hS.2.2 dX7_factor_19
  · have h_t := bI_1 c_4
    obtain ⟨jt, hj_t, rfl⟩ := inB_nat (by decide) h_t
    refine lv_iload_n hx hb dX7_factor_7 rfl (lv_at hl 2 rfl) ?_
    refine s_i (va_runS (As := [.int a]) (rest := []) ⟨hx, hb, hml, hown, hts⟩ (x7_isRegister Z a) (va_cwS 1 hts (lw_S q2104 q2105 q107 q2106) rfl rfl rfl (by decide +kernel) ⟨Nat.le_of_ble_eq_true rfl, Nat.le_of_ble_eq_true rfl⟩) (gP_S hG hS (fun q _ h => h.elim) trivial) rfl rfl hl.1 rfl (lv_room (Nat.le_of_ble_eq_true rfl)) dX7_factor_8 ⟨by first | decide | omega, by first | decide | omega⟩) ?_
    refine lv_if_ne (tgt := 20) hx hb dX7_factor_11 (by decide) (fun c_11 => ?_) (fun c_11 => ?_)
    · have h_a := bI_1 c_11
      obtain ⟨ja, hj_a, rfl⟩ := inB_nat (by decide) h_a
      refine lv_aload_n hx hb dX7_factor_20 rfl (lv_at hl 0 rfl) ?_
      refine lv_iload_n hx hb dX7_factor_21 rfl (lv_at hl 2 rfl) ?_
      refine s_i (va_runV (As := [.int (nI ja)]) (rest := []) ⟨hx, hb, hml, hown, hts⟩ (x7_isOneBlade Z o th p0 q0 r0 mu zz fA ja (Ms ja) (by omega) (by omega) (hR ja (by omega))) (cwV 1 hts (lw_V q2305 q2307 qs63 q107 q2308) rfl rfl rfl (by decide +kernel) ⟨Nat.le_of_ble_eq_true rfl, Nat.le_of_ble_eq_true rfl⟩) (gP_V (va_recv hK hP (ci := 2) (q0 := 0) rfl rfl) hG hS (fun q _ h => h.elim) (hP.sub (ws' := [(o 0, .inr (2, mFs o th p0 q0 r0 mu zz)), (o 5, .inl (dA 1, 2640, .inr (.inl fA)))]) [0, 1] rfl)) rfl rfl hl.1 rfl (lv_room (Nat.le_of_ble_eq_true rfl)) dX7_factor_22 ⟨by first | decide | omega, by first | decide | omega⟩) ?_
      refine lv_if_ne (tgt := 34) hx hb dX7_factor_25 (by decide) (fun c_25 => ?_) (fun c_25 => ?_)
      · have hb_25 := bI_1 c_25
        refine lv_aload_n hx hb dX7_factor_34 rfl (lv_at hl 0 rfl) ?_
        refine lv_iload_n hx hb dX7_factor_35 rfl (lv_at hl 2 rfl) ?_
        refine s_i (va_runV (As := [.int (nI ja)]) (rest := []) ⟨hx, hb, hml, hown, hts⟩ (x7_greatest Z o th p0 q0 r0 mu zz fA ja (Ms ja) (by omega) (by omega) (hR ja (by omega))) (cwV 1 hts (lw_V q2341 q2343 qs66 q107 q2344) rfl rfl rfl (by decide +kernel) ⟨Nat.le_of_ble_eq_true rfl, Nat.le_of_ble_eq_true rfl⟩) (gP_V (va_recv hK hP (ci := 2) (q0 := 0) rfl rfl) hG hS (fun q _ h => h.elim) (hP.sub (ws' := [(o 0, .inr (2, mFs o th p0 q0 r0 mu zz)), (o 5, .inl (dA 1, 2640, .inr (.inl fA)))]) [0, 1] rfl)) rfl rfl hl.1 rfl (lv_room (Nat.le_of_ble_eq_true rfl)) dX7_factor_36 ⟨by first | decide | omega, by first | decide | omega⟩) ?_
        refine lv_istore (lv' := [(4, .int (nI (grtN (Ms ja) (2 ^ (p0 + q0 + r0))))), (0, .ref (o 0)), (1, .int (nI jt)), (2, .int (nI ja)), (3, .int i)]) hx hb dX7_factor_39 hl (by decide) rfl (fun ls hl => ?_)
        refine lv_iload_n hx hb dX7_factor_41 rfl (lv_at hl 4 rfl) ?_
        refine lv_iconst (v := nI 0) hx hb dX7_factor_42 (by decide) ?_
        refine lv_iload hx hb dX7_factor_43 (lv_at hl 0 rfl) ?_
        refine s_i (va_runS (As := [.int (nI (grtN (Ms ja) (2 ^ (p0 + q0 + r0))))]) (rest := [.int (nI 0), .int i]) ⟨hx, hb, hml, hown, hts⟩ (x7_size Z (grtN (Ms ja) (2 ^ (p0 + q0 + r0))) (by have := grtN_lt (Ms ja) _ h5.2; omega)) (va_cwS 1 hts (lw_S q2158 q2159 q107 q2160) rfl rfl rfl (by decide +kernel) ⟨Nat.le_of_ble_eq_true rfl, Nat.le_of_ble_eq_true rfl⟩) (gP_S hG hS (fun q _ h => h.elim) trivial) rfl rfl hl.1 rfl (lv_room (Nat.le_of_ble_eq_true rfl)) dX7_factor_45 ⟨by first | decide | omega, by first | decide | omega⟩) ?_
        refine lv_iconst (v := nI 1) hx hb dX7_factor_48 (by decide) ?_
        refine lv_isub hx hb dX7_factor_49 ?_
        refine s_i (va_runS (As := [.int i, .int (nI 0), .int ((nI (popc (grtN (Ms ja) (2 ^ (p0 + q0 + r0))))) - (nI 1))]) (rest := []) ⟨hx, hb, hml, hown, hts⟩ (x7_in Z i (nI 0) ((nI (popc (grtN (Ms ja) (2 ^ (p0 + q0 + r0))))) - (nI 1))) (va_cwS 3 hts (lw_S q2097 q2098 q107 q2099) rfl rfl rfl (by decide +kernel) ⟨Nat.le_of_ble_eq_true rfl, Nat.le_of_ble_eq_true rfl⟩) (gP_S hG hS (fun q _ h => h.elim) trivial) rfl rfl hl.1 rfl (lv_room (Nat.le_of_ble_eq_true rfl)) dX7_factor_50 ⟨by first | decide | omega, by first | decide | omega⟩) ?_
        refine lv_if_ne (tgt := 62) hx hb dX7_factor_53 (by decide) (fun c_53 => ?_) (fun c_53 => ?_)
        · have h_i := bI_1 c_53
          obtain ⟨ji, hj_i, rfl⟩ := inB_pred (popc_le5 _ (by have := grtN_lt (Ms ja) _ h5.2; omega)) h_i
          have hst9 := grtN_lt (Ms ja) _ h5.2
          obtain ⟨st, hst⟩ : ∃ st, grtN (Ms ja) (2 ^ (p0 + q0 + r0)) = st := ⟨_, rfl⟩
          rw [hst] at hst9 hj_i hl
          have hst8 : st < 32 := by omega
          have hji : ji < 32 := by have := popc_le5 st hst8; omega
          have hl : lv_has ls 11 [(4, .int (nI st)), (0, .ref (o 0)), (1, .int (nI jt)), (2, .int (nI ja)), (3, .int (nI ji))] := hl
          refine lv_iload hx hb dX7_factor_62 (lv_at hl 0 rfl) ?_
          refine lv_istore (lv' := [(5, .int (nI st)), (4, .int (nI st)), (0, .ref (o 0)), (1, .int (nI jt)), (2, .int (nI ja)), (3, .int (nI ji))]) hx hb dX7_factor_64 hl (by decide) rfl (fun ls hl => ?_)
          refine lv_iconst (v := nI 0) hx hb dX7_factor_66 (by decide) ?_
          refine lv_istore (lv' := [(6, .int (nI 0)), (5, .int (nI st)), (4, .int (nI st)), (0, .ref (o 0)), (1, .int (nI jt)), (2, .int (nI ja)), (3, .int (nI ji))]) hx hb dX7_factor_67 hl (by decide) rfl (fun ls hl => ?_)
          have loop_2 : ∀ (n9_2 : Nat) (k : Nat) (H : Heap) (locs : List Loc) (ls : Array Slot), ji - k < n9_2 → (k ≤ ji) → va_P (dC, dI) vwCl [(o 0, .inr (2, mFs o th p0 q0 r0 mu zz)), (o 5, .inl (dA 1, 2640, .inr (.inl fA))), (o 6, .inl (dA 1, 32, .inr (.inl fM)))] H → va_D A [(o 0, .inr (2, mFs o th p0 q0 r0 mu zz)), (o 5, .inl (dA 1, 2640, .inr (.inl fA))), (o 6, .inl (dA 1, 32, .inr (.inl fM)))] → va_S A s.heap H locs → lv_has ls 11 [(0, .ref (o 0)), (1, .int (nI jt)), (2, .int (nI ja)), (3, .int (nI ji)), (4, .int (nI st)), (5, .int (nI (drpN st k))), (6, .int (nI k))] → W p l e ({ frames := 7, cells := 0, slots := 0, locals := 420 } : Room) s m args below meth c H locs 0 0 Q (F0 m 69 ls []) := by
            intro n9_2
            induction n9_2 with
            | zero => intro k H locs ls hm_2; exact absurd hm_2 (Nat.not_lt_zero _)
            | succ n9_2 ih_2 =>
              intro k H locs ls hm_2 hk9 hP hD hS hl
              have hd9 := drpN_le st k
              have hd8 := drpN_pos (x := st) (k := k) (by omega) (by omega)
              refine lv_iload hx hb dX7_factor_69 (lv_at hl 6 rfl) ?_
              refine lv_iload_n hx hb dX7_factor_71 rfl (lv_at hl 3 rfl) ?_
              refine lv_icmp_ge (tgt := 90) hx hb dX7_factor_72 (by decide) (fun c_72 => ?_) (fun c_72 => ?_)
              · have c_72 : ji ≤ k := (nI_leI (a := ji) (b := k) (by omega) (by omega)).mp c_72
                obtain rfl : ji = k := by omega
                obtain ⟨ke, hke, he9, hb9, ho9, hle9⟩ := fac_bits st (by omega) ji (by have := popc_le5 st hst8; omega) hj_i
                have hkn : ke < p0 + q0 + r0 := by rcases Nat.lt_or_ge ke (p0 + q0 + r0) with c | c; exact c; (have := pow_le' c; omega)
                refine lv_iload hx hb dX7_factor_90 (lv_at hl 5 rfl) ?_
                refine lv_iload hx hb dX7_factor_92 (lv_at hl 5 rfl) ?_
                refine lv_ineg hx hb dX7_factor_94 ?_
                refine lv_iand hx hb dX7_factor_95 ?_
                refine e_i (y := nI (lowB (drpN st ji))) (low_and _ (by omega)) ?_
                rw [he9]
                have he7 : 2 ^ ke < 32 := p5 (by omega)
                have hr9 : st ^^^ 2 ^ ke < 32 := xor32 hst8 he7
                refine lv_istore (lv' := [(6, .int (nI (2 ^ ke))), (0, .ref (o 0)), (1, .int (nI jt)), (2, .int (nI ja)), (3, .int (nI ji)), (4, .int (nI st)), (5, .int (nI (drpN st ji)))]) hx hb dX7_factor_96 hl (by decide) rfl (fun ls hl => ?_)
                refine lv_iload hx hb dX7_factor_98 (lv_at hl 5 rfl) ?_
                refine lv_iload hx hb dX7_factor_100 (lv_at hl 0 rfl) ?_
                refine lv_ixor hx hb dX7_factor_102 ?_
                refine e_i (y := nI (st ^^^ (2 ^ ke))) (n_xor _ _) ?_
                refine lv_istore (lv' := [(7, .int (nI (st ^^^ (2 ^ ke)))), (6, .int (nI (2 ^ ke))), (0, .ref (o 0)), (1, .int (nI jt)), (2, .int (nI ja)), (3, .int (nI ji)), (4, .int (nI st)), (5, .int (nI (drpN st ji)))]) hx hb dX7_factor_103 hl (by decide) rfl (fun ls hl => ?_)
                refine lv_aload_n hx hb dX7_factor_105 rfl (lv_at hl 2 rfl) ?_
                have hF9 := va_free (wc := [(o 0, .inr (2, mFs o th p0 q0 r0 mu zz)), (o 5, .inl (dA 1, 2640, .inr (.inl fA))), (o 6, .inl (dA 1, 32, .inr (.inl fM)))]) hD hS (fun q h => hA q h) [0, 1, 2] rfl
                refine c_v (wr := []) (va_runV (As := []) (rest := []) ⟨hx, hb, hml, hown, hts⟩ (x7_clearsMade Z (va_A [(o 0, .inr (2, mFs o th p0 q0 r0 mu zz)), (o 5, .inl (dA 1, 2640, .inr (.inl fA))), (o 6, .inl (dA 1, 32, .inr (.inl fM)))] H.size) H.size (fun q h => Or.inr h) o th p0 q0 r0 mu zz fA fM) (cwV 0 hts (lw_V q2115 q2117 qs37 q107 q2118) rfl rfl rfl (by decide +kernel) ⟨Nat.le_of_ble_eq_true rfl, Nat.le_of_ble_eq_true rfl⟩) (gP_V (va_recv hK hP (ci := 2) (q0 := 0) rfl rfl) hG hS (fun q _ h => hF9 q h) ⟨rfl, (hP.sub (ws' := [(o 0, .inr (2, mFs o th p0 q0 r0 mu zz)), (o 5, .inl (dA 1, 2640, .inr (.inl fA))), (o 6, .inl (dA 1, 32, .inr (.inl fM)))]) [0, 1, 2] rfl), (hD.sub (ws' := [(o 0, .inr (2, mFs o th p0 q0 r0 mu zz)), (o 5, .inl (dA 1, 2640, .inr (.inl fA))), (o 6, .inl (dA 1, 32, .inr (.inl fM)))]) [0, 1, 2] (by decide) rfl).self⟩) rfl rfl hl.1 rfl (lv_room (Nat.le_of_ble_eq_true rfl)) dX7_factor_106 ⟨by first | decide | omega, by first | decide | omega⟩) hP hD hS hA [0, 1, 2] [] rfl rfl (by decide) (by decide) (fun u9 H locs hq hX hz hk hP hD hS => ?_)
                have hP : va_P (dC, dI) vwCl [(o 0, .inr (2, mFs o th p0 q0 r0 1 zz)), (o 5, .inl (dA 1, 2640, .inr (.inl fA))), (o 6, .inl (dA 1, 32, .inr (.inl (fun _ => 0))))] H := hP
                have hD : va_D A [(o 0, .inr (2, mFs o th p0 q0 r0 1 zz)), (o 5, .inl (dA 1, 2640, .inr (.inl fA))), (o 6, .inl (dA 1, 32, .inr (.inl (fun _ => 0))))] := hD
                refine lv_iconst (v := nI 0) hx hb dX7_factor_109 (by decide) ?_
                refine lv_istore (lv' := [(8, .int (nI 0)), (7, .int (nI (st ^^^ (2 ^ ke)))), (6, .int (nI (2 ^ ke))), (0, .ref (o 0)), (1, .int (nI jt)), (2, .int (nI ja)), (3, .int (nI ji)), (4, .int (nI st)), (5, .int (nI (drpN st ji)))]) hx hb dX7_factor_110 hl (by decide) rfl (fun ls hl => ?_)
                have e9 : (fun _ => 0 : Nat → Int64) = (pvS (facV (Ms ja) (st ^^^ 2 ^ ke)) 0) := rfl
                rw [e9] at hP hD; clear e9
                have loop_3 : ∀ (n9_3 : Nat) (k : Nat) (H : Heap) (locs : List Loc) (ls : Array Slot), p0 + q0 + r0 - k < n9_3 → (k ≤ p0 + q0 + r0) → va_P (dC, dI) vwCl [(o 0, .inr (2, mFs o th p0 q0 r0 1 zz)), (o 5, .inl (dA 1, 2640, .inr (.inl fA))), (o 6, .inl (dA 1, 32, .inr (.inl (pvS (facV (Ms ja) (st ^^^ 2 ^ ke)) k))))] H → va_D A [(o 0, .inr (2, mFs o th p0 q0 r0 1 zz)), (o 5, .inl (dA 1, 2640, .inr (.inl fA))), (o 6, .inl (dA 1, 32, .inr (.inl (pvS (facV (Ms ja) (st ^^^ 2 ^ ke)) k))))] → va_S A s.heap H locs → lv_has ls 11 [(0, .ref (o 0)), (1, .int (nI jt)), (2, .int (nI ja)), (3, .int (nI ji)), (4, .int (nI st)), (5, .int (nI (drpN st ji))), (6, .int (nI (2 ^ ke))), (7, .int (nI (st ^^^ (2 ^ ke)))), (8, .int (nI k))] → W p l e ({ frames := 7, cells := 0, slots := 0, locals := 420 } : Room) s m args below meth c H locs 0 0 Q (F0 m 112 ls []) := by
                  intro n9_3
                  induction n9_3 with
                  | zero => intro k H locs ls hm_3; exact absurd hm_3 (Nat.not_lt_zero _)
                  | succ n9_3 ih_3 =>
                    intro k H locs ls hm_3 hk9 hP hD hS hl
                    refine lv_iload hx hb dX7_factor_112 (lv_at hl 8 rfl) ?_
                    refine lv_aload_n hx hb dX7_factor_114 rfl (lv_at hl 0 rfl) ?_
                    refine s_i (va_runV (As := []) (rest := [.int (nI k)]) ⟨hx, hb, hml, hown, hts⟩ (x7_n Z o th p0 q0 r0 1 zz) (cwV 0 hts (lw_V q2151 q2153 qs44 q107 q2154) rfl rfl rfl (by decide +kernel) ⟨Nat.le_of_ble_eq_true rfl, Nat.le_of_ble_eq_true rfl⟩) (gP_V (va_recv hK hP (ci := 2) (q0 := 0) rfl rfl) hG hS (fun q _ h => h.elim) (hP.sub (ws' := [(o 0, .inr (2, mFs o th p0 q0 r0 1 zz))]) [0] rfl)) rfl rfl hl.1 rfl (lv_room (Nat.le_of_ble_eq_true rfl)) dX7_factor_115 ⟨by first | decide | omega, by first | decide | omega⟩) ?_
                    refine lv_icmp_ge (tgt := 174) hx hb dX7_factor_118 (by decide) (fun c_118 => ?_) (fun c_118 => ?_)
                    · have c_118 : (p0 + q0 + r0) ≤ k := (nI_leI (a := (p0 + q0 + r0)) (b := k) (by omega) (by omega)).mp c_118
                      obtain rfl : k = p0 + q0 + r0 := by omega
                      refine lv_aload_n hx hb dX7_factor_174 rfl (lv_at hl 0 rfl) ?_
                      refine lv_aload_n hx hb dX7_factor_175 rfl (lv_at hl 0 rfl) ?_
                      refine va_get (D := (dC, dI)) (ci := 2) (v := .ref (o 6)) (C := RX7) (T := TX7) (N := 27) hx hb hts in_X7 hown hK hP 0 rfl rfl 9 (by decide) (hts _ q2015) (fun _ h9 => h9) rfl dX7_factor_176 ?_
                      refine lv_iload hx hb dX7_factor_179 (lv_at hl 6 rfl) ?_
                      refine a_lald hx hb hK hP 2 1 rfl rfl (by omega) (by omega) dX7_factor_181 ?_
                      obtain ⟨u, hu⟩ : ∃ u, pvS (facV (Ms ja) (st ^^^ 2 ^ ke)) (p0 + q0 + r0) (2 ^ ke) = u := ⟨_, rfl⟩
                      rw [hu]
                      refine va_put (D := (dC, dI)) (ci := 2) (v := .long u) (ty := .long) (C := RX7) (T := TX7) (N := 27) hx hb hts in_X7 tyX7 tyX7_ok nmX7 hown hK hP hD hS 0 rfl rfl 10 (by decide) (hts _ q2016) (fun _ h9 => h9) rfl (by decide +kernel) rfl rfl (Nat.le_of_ble_eq_true rfl) dX7_factor_182 (fun H locs hP hD hS => ?_)
                      have hP : va_P (dC, dI) vwCl [(o 0, .inr (2, mFs o th p0 q0 r0 u zz)), (o 5, .inl (dA 1, 2640, .inr (.inl fA))), (o 6, .inl (dA 1, 32, .inr (.inl (pvS (facV (Ms ja) (st ^^^ 2 ^ ke)) (p0 + q0 + r0)))))] H := hP
                      have hD : va_D A [(o 0, .inr (2, mFs o th p0 q0 r0 u zz)), (o 5, .inl (dA 1, 2640, .inr (.inl fA))), (o 6, .inl (dA 1, 32, .inr (.inl (pvS (facV (Ms ja) (st ^^^ 2 ^ ke)) (p0 + q0 + r0)))))] := hD
                      have J_4 : ∀  (H : Heap) (locs : List Loc) (ls : Array Slot), va_P (dC, dI) vwCl [(o 0, .inr (2, mFs o th p0 q0 r0 u zz)), (o 5, .inl (dA 1, 2640, .inr (.inl fA))), (o 6, .inl (dA 1, 32, .inr (.inl (pvS (facV (Ms ja) (st ^^^ 2 ^ ke)) (p0 + q0 + r0)))))] H → va_D A [(o 0, .inr (2, mFs o th p0 q0 r0 u zz)), (o 5, .inl (dA 1, 2640, .inr (.inl fA))), (o 6, .inl (dA 1, 32, .inr (.inl (pvS (facV (Ms ja) (st ^^^ 2 ^ ke)) (p0 + q0 + r0)))))] → va_S A s.heap H locs → lv_has ls 11 [(0, .ref (o 0)), (1, .int (nI jt)), (2, .int (nI ja)), (3, .int (nI ji)), (4, .int (nI st)), (5, .int (nI (drpN st ji))), (6, .int (nI (2 ^ ke))), (7, .int (nI (st ^^^ (2 ^ ke)))), (8, .int (nI (p0 + q0 + r0)))] → W p l e ({ frames := 7, cells := 0, slots := 0, locals := 420 } : Room) s m args below meth c H locs 0 0 Q (F0 m 201 ls [.long (sgL u)]) := by
                        intro  H locs ls  hP hD hS hl
                        refine lv_lstore (lv' := [(8, .long (sgL u)), (0, .ref (o 0)), (1, .int (nI jt)), (2, .int (nI ja)), (3, .int (nI ji)), (4, .int (nI st)), (5, .int (nI (drpN st ji))), (6, .int (nI (2 ^ ke))), (7, .int (nI (st ^^^ (2 ^ ke))))]) hx hb dX7_factor_201 hl (by decide) rfl (fun ls hl => ?_)
                        refine lv_aload_n hx hb dX7_factor_203 rfl (lv_at hl 1 rfl) ?_
                        refine lv_dup hx hb dX7_factor_204 rfl ?_
                        refine va_get (D := (dC, dI)) (ci := 2) (v := .long u) (C := RX7) (T := TX7) (N := 27) hx hb hts in_X7 hown hK hP 0 rfl rfl 10 (by decide) (hts _ q2016) (fun _ h9 => h9) rfl dX7_factor_205 ?_
                        refine lv_lload hx hb dX7_factor_208 (lv_at hl 0 rfl) ?_
                        refine lv_lmul hx hb dX7_factor_210 ?_
                        refine va_put (D := (dC, dI)) (ci := 2) (v := .long (u * (sgL u))) (ty := .long) (C := RX7) (T := TX7) (N := 27) hx hb hts in_X7 tyX7 tyX7_ok nmX7 hown hK hP hD hS 0 rfl rfl 10 (by decide) (hts _ q2016) (fun _ h9 => h9) rfl (by decide +kernel) rfl rfl (Nat.le_of_ble_eq_true rfl) dX7_factor_211 (fun H locs hP hD hS => ?_)
                        have hP : va_P (dC, dI) vwCl [(o 0, .inr (2, mFs o th p0 q0 r0 (u * (sgL u)) zz)), (o 5, .inl (dA 1, 2640, .inr (.inl fA))), (o 6, .inl (dA 1, 32, .inr (.inl (pvS (facV (Ms ja) (st ^^^ 2 ^ ke)) (p0 + q0 + r0)))))] H := hP
                        have hD : va_D A [(o 0, .inr (2, mFs o th p0 q0 r0 (u * (sgL u)) zz)), (o 5, .inl (dA 1, 2640, .inr (.inl fA))), (o 6, .inl (dA 1, 32, .inr (.inl (pvS (facV (Ms ja) (st ^^^ 2 ^ ke)) (p0 + q0 + r0)))))] := hD
                        refine lv_iconst (v := nI 0) hx hb dX7_factor_214 (by decide) ?_
                        refine lv_istore (lv' := [(10, .int (nI 0)), (8, .long (sgL u)), (0, .ref (o 0)), (1, .int (nI jt)), (2, .int (nI ja)), (3, .int (nI ji)), (4, .int (nI st)), (5, .int (nI (drpN st ji))), (6, .int (nI (2 ^ ke))), (7, .int (nI (st ^^^ (2 ^ ke))))]) hx hb dX7_factor_215 hl (by decide) rfl (fun ls hl => ?_)
                        have e9 : (pvS (facV (Ms ja) (st ^^^ 2 ^ ke)) (p0 + q0 + r0) : Nat → Int64) = (pvS (fun i => if i < 0 then facV (Ms ja) (st ^^^ 2 ^ ke) i * sgL u else facV (Ms ja) (st ^^^ 2 ^ ke) i) (p0 + q0 + r0)) := pv_ext (fun i hi => by rw [if_neg (Nat.not_lt_zero _)])
                        rw [e9] at hP hD; clear e9
                        have loop_5 : ∀ (n9_5 : Nat) (k : Nat) (H : Heap) (locs : List Loc) (ls : Array Slot), p0 + q0 + r0 - k < n9_5 → (k ≤ p0 + q0 + r0) → va_P (dC, dI) vwCl [(o 0, .inr (2, mFs o th p0 q0 r0 (u * (sgL u)) zz)), (o 5, .inl (dA 1, 2640, .inr (.inl fA))), (o 6, .inl (dA 1, 32, .inr (.inl (pvS (fun i => if i < k then facV (Ms ja) (st ^^^ 2 ^ ke) i * sgL u else facV (Ms ja) (st ^^^ 2 ^ ke) i) (p0 + q0 + r0)))))] H → va_D A [(o 0, .inr (2, mFs o th p0 q0 r0 (u * (sgL u)) zz)), (o 5, .inl (dA 1, 2640, .inr (.inl fA))), (o 6, .inl (dA 1, 32, .inr (.inl (pvS (fun i => if i < k then facV (Ms ja) (st ^^^ 2 ^ ke) i * sgL u else facV (Ms ja) (st ^^^ 2 ^ ke) i) (p0 + q0 + r0)))))] → va_S A s.heap H locs → lv_has ls 11 [(0, .ref (o 0)), (1, .int (nI jt)), (2, .int (nI ja)), (3, .int (nI ji)), (4, .int (nI st)), (5, .int (nI (drpN st ji))), (6, .int (nI (2 ^ ke))), (7, .int (nI (st ^^^ (2 ^ ke)))), (8, .long (sgL u)), (10, .int (nI k))] → W p l e ({ frames := 7, cells := 0, slots := 0, locals := 420 } : Room) s m args below meth c H locs 0 0 Q (F0 m 217 ls []) := by
                          intro n9_5
                          induction n9_5 with
                          | zero => intro k H locs ls hm_5; exact absurd hm_5 (Nat.not_lt_zero _)
                          | succ n9_5 ih_5 =>
                            intro k H locs ls hm_5 hk9 hP hD hS hl
                            refine lv_iload hx hb dX7_factor_217 (lv_at hl 9 rfl) ?_
                            refine lv_aload_n hx hb dX7_factor_219 rfl (lv_at hl 0 rfl) ?_
                            refine s_i (va_runV (As := []) (rest := [.int (nI k)]) ⟨hx, hb, hml, hown, hts⟩ (x7_n Z o th p0 q0 r0 (u * (sgL u)) zz) (cwV 0 hts (lw_V q2151 q2153 qs44 q107 q2154) rfl rfl rfl (by decide +kernel) ⟨Nat.le_of_ble_eq_true rfl, Nat.le_of_ble_eq_true rfl⟩) (gP_V (va_recv hK hP (ci := 2) (q0 := 0) rfl rfl) hG hS (fun q _ h => h.elim) (hP.sub (ws' := [(o 0, .inr (2, mFs o th p0 q0 r0 (u * (sgL u)) zz))]) [0] rfl)) rfl rfl hl.1 rfl (lv_room (Nat.le_of_ble_eq_true rfl)) dX7_factor_220 ⟨by first | decide | omega, by first | decide | omega⟩) ?_
                            refine lv_icmp_ge (tgt := 246) hx hb dX7_factor_223 (by decide) (fun c_223 => ?_) (fun c_223 => ?_)
                            · have c_223 : (p0 + q0 + r0) ≤ k := (nI_leI (a := (p0 + q0 + r0)) (b := k) (by omega) (by omega)).mp c_223
                              obtain rfl : k = p0 + q0 + r0 := by omega
                              have e9 : (pvS (fun i => if i < (p0 + q0 + r0) then facV (Ms ja) (st ^^^ 2 ^ ke) i * sgL u else facV (Ms ja) (st ^^^ 2 ^ ke) i) (p0 + q0 + r0) : Nat → Int64) = (pvS (fun k => facV (Ms ja) (st ^^^ 2 ^ ke) k * sgL u) (p0 + q0 + r0)) := pv_ext (fun i hi => by rw [if_pos hi])
                              rw [e9] at hP hD; clear e9
                              refine lv_aload_n hx hb dX7_factor_246 rfl (lv_at hl 0 rfl) ?_
                              refine lv_bipush (v := nI 24) hx hb dX7_factor_247 (by decide) ?_
                              have hu0 := fac_u (i := ji) hn (sR ja (by omega)) (spR ja (by omega)) hb_25 hst hst8 hke hkn hb9 ho9
                              rw [hu] at hu0
                              have hF9 := va_free (wc := [(o 0, .inr (2, mFs o th p0 q0 r0 (u * (sgL u)) zz)), (o 5, .inl (dA 1, 2640, .inr (.inl fA))), (o 6, .inl (dA 1, 32, .inr (.inl (pvS (fun k => facV (Ms ja) (st ^^^ 2 ^ ke) k * sgL u) (p0 + q0 + r0)))))]) hD hS (fun q h => hA q h) [0, 1, 2] rfl
                              refine c_i (wr := []) (va_runV (As := [.int (nI 24)]) (rest := []) ⟨hx, hb, hml, hown, hts⟩ (x7_puts Z (va_A [(o 0, .inr (2, mFs o th p0 q0 r0 (u * (sgL u)) zz)), (o 5, .inl (dA 1, 2640, .inr (.inl fA))), (o 6, .inl (dA 1, 32, .inr (.inl (pvS (fun k => facV (Ms ja) (st ^^^ 2 ^ ke) k * sgL u) (p0 + q0 + r0)))))] H.size) H.size (fun q h => Or.inr h) o th p0 q0 r0 (u * (sgL u)) zz fA (pvS (fun k => facV (Ms ja) (st ^^^ 2 ^ ke) k * sgL u) (p0 + q0 + r0)) 24 (by omega) (fac_mu hu0.1 hu0.2) (fun j hj => pv_nm (fun k hk => fac_nm (sR ja (by omega)) hr9 (by omega)) j)) (cwV 1 hts (lw_V q2127 q2129 qs40 q107 q2130) rfl rfl rfl (by decide +kernel) ⟨Nat.le_of_ble_eq_true rfl, Nat.le_of_ble_eq_true rfl⟩) (gP_V (va_recv hK hP (ci := 2) (q0 := 0) rfl rfl) hG hS (fun q _ h => hF9 q h) ⟨rfl, (hP.sub (ws' := [(o 0, .inr (2, mFs o th p0 q0 r0 (u * (sgL u)) zz)), (o 5, .inl (dA 1, 2640, .inr (.inl fA))), (o 6, .inl (dA 1, 32, .inr (.inl (pvS (fun k => facV (Ms ja) (st ^^^ 2 ^ ke) k * sgL u) (p0 + q0 + r0)))))]) [0, 1, 2] rfl), (hD.sub (ws' := [(o 0, .inr (2, mFs o th p0 q0 r0 (u * (sgL u)) zz)), (o 5, .inl (dA 1, 2640, .inr (.inl fA))), (o 6, .inl (dA 1, 32, .inr (.inl (pvS (fun k => facV (Ms ja) (st ^^^ 2 ^ ke) k * sgL u) (p0 + q0 + r0)))))]) [0, 1, 2] (by decide) rfl).self⟩) rfl rfl hl.1 rfl (lv_room (Nat.le_of_ble_eq_true rfl)) dX7_factor_249 ⟨by first | decide | omega, by first | decide | omega⟩) hP hD hS hA [0, 1, 2] [] rfl rfl (by decide) (by decide) (fun r9 u9 H locs hq hX hz hk hP hD hS => ?_)
                              obtain ⟨fA_6, fM_7, mu_8⟩ := u9
                              obtain ⟨r_9, rfl⟩ : ∃ z, z = r9 := ⟨_, rfl⟩
                              have hq_10 := hq
                              try dsimp only at hq_10
                              have hP : va_P (dC, dI) vwCl [(o 0, .inr (2, mFs o th p0 q0 r0 mu_8 zz)), (o 5, .inl (dA 1, 2640, .inr (.inl fA_6))), (o 6, .inl (dA 1, 32, .inr (.inl fM_7)))] H := hP
                              have hD : va_D A [(o 0, .inr (2, mFs o th p0 q0 r0 mu_8 zz)), (o 5, .inl (dA 1, 2640, .inr (.inl fA_6))), (o 6, .inl (dA 1, 32, .inr (.inl fM_7)))] := hD
                              rcases hq_10.cases with ⟨P_11, e_11, rfl, hH_11, hS_11⟩ | ⟨e_11, rfl, hE_11⟩
                              · have sm_12 : MSm P_11 := fitS_sm (fac_mu hu0.1 hu0.2) e_11
                                have hh_13 := hS_11.hold (j := jt) (by omega) (hR jt (by omega))
                                have hh_14 := hS_11.hold (j := ja) (by omega) (hR ja (by omega))
                                refine lv_if_eq (tgt := 265) hx hb dX7_factor_252 (by decide) (fun c_252 => ?_) (fun c_252 => ?_)
                                · exact absurd c_252 (by decide)
                                refine lv_aload_n hx hb dX7_factor_255 rfl (lv_at hl 0 rfl) ?_
                                refine lv_bipush (v := nI 24) hx hb dX7_factor_256 (by decide) ?_
                                refine lv_iload_n hx hb dX7_factor_258 rfl (lv_at hl 1 rfl) ?_
                                have hF9 := va_free (wc := [(o 0, .inr (2, mFs o th p0 q0 r0 mu_8 zz)), (o 5, .inl (dA 1, 2640, .inr (.inl fA_6)))]) hD hS (fun q h => hA q h) [0, 1] rfl
                                refine c_i (wr := [(o 6, .inl (dA 1, 32, .inr (.inl fM_7)))]) (va_runV (As := [.int (nI 24), .int (nI jt)]) (rest := []) ⟨hx, hb, hml, hown, hts⟩ (x7_gives Z (va_A [(o 0, .inr (2, mFs o th p0 q0 r0 mu_8 zz)), (o 5, .inl (dA 1, 2640, .inr (.inl fA_6)))] H.size) H.size (fun q h => Or.inr h) o th p0 q0 r0 mu_8 zz fA_6 fM_7 24 jt (by omega) (by omega)) (cwV 2 hts (lw_V q2181 q2183 qs48 q107 q2184) rfl rfl rfl (by decide +kernel) ⟨Nat.le_of_ble_eq_true rfl, Nat.le_of_ble_eq_true rfl⟩) (gP_V (va_recv hK hP (ci := 2) (q0 := 0) rfl rfl) hG hS (fun q _ h => hF9 q h) ⟨rfl, (hP.sub (ws' := [(o 0, .inr (2, mFs o th p0 q0 r0 mu_8 zz)), (o 5, .inl (dA 1, 2640, .inr (.inl fA_6)))]) [0, 1] rfl), (hD.sub (ws' := [(o 0, .inr (2, mFs o th p0 q0 r0 mu_8 zz)), (o 5, .inl (dA 1, 2640, .inr (.inl fA_6)))]) [0, 1] (by decide) rfl).self⟩) rfl rfl hl.1 rfl (lv_room (Nat.le_of_ble_eq_true rfl)) dX7_factor_259 ⟨by first | decide | omega, by first | decide | omega⟩) hP hD hS hA [0, 1] [2] rfl rfl (by decide) (by decide) (fun r9 u9 H locs hq hX hz hk hP hD hS => ?_)
                                obtain ⟨r_15, rfl⟩ : ∃ z, z = r9 := ⟨_, rfl⟩
                                obtain rfl := hq
                                have hP : va_P (dC, dI) vwCl [(o 6, .inl (dA 1, 32, .inr (.inl fM_7))), (o 0, .inr (2, mFs o (nI 0) p0 q0 r0 mu_8 zz)), (o 5, .inl (dA 1, 2640, .inr (.inl (cpS fA_6 24 jt))))] H := hP
                                have hD : va_D A [(o 6, .inl (dA 1, 32, .inr (.inl fM_7))), (o 0, .inr (2, mFs o (nI 0) p0 q0 r0 mu_8 zz)), (o 5, .inl (dA 1, 2640, .inr (.inl (cpS fA_6 24 jt))))] := hD
                                have hc_17 := cpS_hold (t := jt) hH_11
                                have hs_18 := cpS_same (fA := fA_6) (k := 24) (t := jt)
                                generalize cpS fA_6 24 jt = fA_16 at hP hD hc_17 hs_18 ⊢
                                have hh_19 := hs_18.hold (j := 24) (by omega) hH_11
                                refine lv_goto (tgt := 270) hx hb dX7_factor_262 (by decide) ?_
                                subst hQe
                                exact W.iret (v := nI (cntN (fun j => fA_16 (33 * jt + 1 + j)) 32)) hx hb hr (fun t ht hW => ⟨⟨_, (fA_16, fM_7, mu_8, nI 0), rfl, (by rw [rg_n (show jt < 8 by omega)]; exact ModPost.mk1 (P := P_11) (by rw [show facX p0 q0 r0 Ms (nI jt) (nI ja) (nI ji) = optC (nI 4) (facS (p0 + q0 + r0) (Ms ja) ji) from by simp [facX, rgB, h_t, h_a, h_i, hb_25, rg_n (show ja < 8 by omega), nI_clamp (show ji < 2 ^ 31 by omega)]]; rw [show facS (p0 + q0 + r0) (Ms ja) ji = _ from fac_spec hst he9 hu e_11]; rfl) hc_17 (fun k9 hk9 i9 hi9 => by (try dsimp only [outH] at hk9); show fA_16 (33 * k9 + i9) = fA (33 * k9 + i9); rw [hs_18 _ (by omega), hS_11 _ (by omega)])), B1_at ht (hP.sub [1, 2, 0] rfl) (hD.sub [1, 2, 0] (by decide) rfl) trivial⟩, hS.F ht⟩) hS.2.2 dX7_factor_270
                              · have hh_20 : Hold fA_6 jt (Ms jt) := by rw [hE_11]; exact (hR jt (by omega))
                                have hh_21 : Hold fA_6 ja (Ms ja) := by rw [hE_11]; exact (hR ja (by omega))
                                refine lv_if_eq (tgt := 265) hx hb dX7_factor_252 (by decide) (fun c_252 => ?_) (fun c_252 => ?_)
                                rotate_left
                                · exact absurd (by decide) c_252
                                refine lv_aload_n hx hb dX7_factor_265 rfl (lv_at hl 0 rfl) ?_
                                refine lv_iconst (v := nI 4) hx hb dX7_factor_266 (by decide) ?_
                                have hF9 := va_free (wc := [(o 0, .inr (2, mFs o th p0 q0 r0 mu_8 zz))]) hD hS (fun q h => hA q h) [0] rfl
                                refine c_i (wr := [(o 5, .inl (dA 1, 2640, .inr (.inl fA_6))), (o 6, .inl (dA 1, 32, .inr (.inl fM_7)))]) (va_runV (As := [.int (nI 4)]) (rest := []) ⟨hx, hb, hml, hown, hts⟩ (x7_refuses Z (va_A [(o 0, .inr (2, mFs o th p0 q0 r0 mu_8 zz))] H.size) H.size (fun q h => Or.inr h) o th p0 q0 r0 mu_8 zz (nI 4)) (cwV 1 hts (lw_V q2100 q2102 qs34 q107 q2103) rfl rfl rfl (by decide +kernel) ⟨Nat.le_of_ble_eq_true rfl, Nat.le_of_ble_eq_true rfl⟩) (gP_V (va_recv hK hP (ci := 2) (q0 := 0) rfl rfl) hG hS (fun q _ h => hF9 q h) ⟨rfl, (hP.sub (ws' := [(o 0, .inr (2, mFs o th p0 q0 r0 mu_8 zz))]) [0] rfl), (hD.sub (ws' := [(o 0, .inr (2, mFs o th p0 q0 r0 mu_8 zz))]) [0] (by decide) rfl).self⟩) rfl rfl hl.1 rfl (lv_room (Nat.le_of_ble_eq_true rfl)) dX7_factor_267 ⟨by first | decide | omega, by first | decide | omega⟩) hP hD hS hA [0] [1, 2] rfl rfl (by decide) (by decide) (fun r9 u9 H locs hq hX hz hk hP hD hS => ?_)
                                obtain ⟨r_22, rfl⟩ : ∃ z, z = r9 := ⟨_, rfl⟩
                                obtain rfl := hq
                                have hP : va_P (dC, dI) vwCl [(o 5, .inl (dA 1, 2640, .inr (.inl fA_6))), (o 6, .inl (dA 1, 32, .inr (.inl fM_7))), (o 0, .inr (2, mFs o (nI 4) p0 q0 r0 mu_8 zz))] H := hP
                                have hD : va_D A [(o 5, .inl (dA 1, 2640, .inr (.inl fA_6))), (o 6, .inl (dA 1, 32, .inr (.inl fM_7))), (o 0, .inr (2, mFs o (nI 4) p0 q0 r0 mu_8 zz))] := hD
                                subst hQe
                                exact W.iret (v := nI 0) hx hb hr (fun t ht hW => ⟨⟨_, (fA_6, fM_7, mu_8, nI 4), rfl, ModPost.mk0 (c := nI 4) (by rw [show facX p0 q0 r0 Ms (nI jt) (nI ja) (nI ji) = optC (nI 4) (facS (p0 + q0 + r0) (Ms ja) ji) from by simp [facX, rgB, h_t, h_a, h_i, hb_25, rg_n (show ja < 8 by omega), nI_clamp (show ji < 2 ^ 31 by omega)]]; rw [show facS (p0 + q0 + r0) (Ms ja) ji = _ from fac_spec hst he9 hu e_11]; rfl) (fun k9 hk9 i9 hi9 => by (try dsimp only [outH] at hk9); show fA_6 (33 * k9 + i9) = fA (33 * k9 + i9); rw [hE_11]), B1_at ht (hP.sub [2, 0, 1] rfl) (hD.sub [2, 0, 1] (by decide) rfl) trivial⟩, hS.F ht⟩) hS.2.2 dX7_factor_270
                            · have c_223 : ¬ (p0 + q0 + r0) ≤ k := fun h => c_223 ((nI_leI (a := (p0 + q0 + r0)) (b := k) (by omega) (by omega)).mpr h)
                              have hk7 : 2 ^ k < 32 := p5 (by omega)
                              refine lv_aload_n hx hb dX7_factor_226 rfl (lv_at hl 0 rfl) ?_
                              refine va_get (D := (dC, dI)) (ci := 2) (v := .ref (o 6)) (C := RX7) (T := TX7) (N := 27) hx hb hts in_X7 hown hK hP 0 rfl rfl 9 (by decide) (hts _ q2015) (fun _ h9 => h9) rfl dX7_factor_227 ?_
                              refine lv_iconst (v := nI 1) hx hb dX7_factor_230 (by decide) ?_
                              refine lv_iload hx hb dX7_factor_231 (lv_at hl 9 rfl) ?_
                              refine lv_ishl hx hb dX7_factor_233 ?_
                              refine e_i (y := nI (2 ^ k)) (n_shl1 (by omega)) ?_
                              refine lv_dup2_11 hx hb dX7_factor_234 rfl rfl ?_
                              refine a_lald hx hb hK hP 2 1 rfl rfl (by omega) (by omega) dX7_factor_235 ?_
                              refine e_l (y := facV (Ms ja) (st ^^^ 2 ^ ke) k) ((by rw [pv_at _ _ k (by omega), if_neg (by omega)])) ?_
                              refine lv_lload hx hb dX7_factor_236 (lv_at hl 8 rfl) ?_
                              refine lv_lmul hx hb dX7_factor_238 ?_
                              refine a_last hx hb hK hP hD hS 2 1 rfl rfl (by omega) (by omega) dX7_factor_239 (fun H locs hP hD hS => ?_)
                              have hP : va_P (dC, dI) vwCl [(o 0, .inr (2, mFs o th p0 q0 r0 (u * (sgL u)) zz)), (o 5, .inl (dA 1, 2640, .inr (.inl fA))), (o 6, .inl (dA 1, 32, .inr (.inl (vp_updL (pvS (fun i => if i < k then facV (Ms ja) (st ^^^ 2 ^ ke) i * sgL u else facV (Ms ja) (st ^^^ 2 ^ ke) i) (p0 + q0 + r0)) (2 ^ k) ((facV (Ms ja) (st ^^^ 2 ^ ke) k) * (sgL u))))))] H := hP
                              have hD : va_D A [(o 0, .inr (2, mFs o th p0 q0 r0 (u * (sgL u)) zz)), (o 5, .inl (dA 1, 2640, .inr (.inl fA))), (o 6, .inl (dA 1, 32, .inr (.inl (vp_updL (pvS (fun i => if i < k then facV (Ms ja) (st ^^^ 2 ^ ke) i * sgL u else facV (Ms ja) (st ^^^ 2 ^ ke) i) (p0 + q0 + r0)) (2 ^ k) ((facV (Ms ja) (st ^^^ 2 ^ ke) k) * (sgL u))))))] := hD
                              have e9 : (vp_updL (pvS (fun i => if i < k then facV (Ms ja) (st ^^^ 2 ^ ke) i * sgL u else facV (Ms ja) (st ^^^ 2 ^ ke) i) (p0 + q0 + r0)) (2 ^ k) ((facV (Ms ja) (st ^^^ 2 ^ ke) k) * (sgL u)) : Nat → Int64) = (pvS (fun i => if i < (k + 1) then facV (Ms ja) (st ^^^ 2 ^ ke) i * sgL u else facV (Ms ja) (st ^^^ 2 ^ ke) i) (p0 + q0 + r0)) := fac_step (by omega)
                              rw [e9] at hP hD; clear e9
                              refine lv_iinc (v := nI (k + 1)) (lv' := [(10, .int (nI (k + 1))), (0, .ref (o 0)), (1, .int (nI jt)), (2, .int (nI ja)), (3, .int (nI ji)), (4, .int (nI st)), (5, .int (nI (drpN st ji))), (6, .int (nI (2 ^ ke))), (7, .int (nI (st ^^^ (2 ^ ke)))), (8, .long (sgL u))]) hx hb dX7_factor_240 hl (k := 9) rfl (by exact nI_add _ 1) (by decide) rfl (fun ls hl => ?_)
                              refine lv_goto (tgt := 217) hx hb dX7_factor_243 (by decide) ?_
                              exact ih_5 (k + 1) H locs ls (by omega) (by omega) (hP.sub [0, 1, 2] rfl) (hD.sub [0, 1, 2] (by decide) rfl) hS (lv_sub hl [1, 2, 3, 4, 5, 6, 7, 8, 9, 0] rfl)
                        exact loop_5 _ 0 H locs ls (Nat.lt_succ_self _) (by omega) hP hD hS (lv_sub hl [2, 3, 4, 5, 6, 7, 8, 9, 1, 0] rfl)
                      refine lv_aload_n hx hb dX7_factor_185 rfl (lv_at hl 0 rfl) ?_
                      refine va_get (D := (dC, dI)) (ci := 2) (v := .long u) (C := RX7) (T := TX7) (N := 27) hx hb hts in_X7 hown hK hP 0 rfl rfl 10 (by decide) (hts _ q2016) (fun _ h9 => h9) rfl dX7_factor_186 ?_
                      refine lv_lconst (v := 0) hx hb dX7_factor_189 rfl ?_
                      refine W.lcmp hx hb dX7_factor_190 ?_
                      refine lv_if_ge (tgt := 200) hx hb dX7_factor_191 (by decide) (fun c_191 => ?_) (fun c_191 => ?_)
                      · have c_191 : 0 ≤ u := (lg_cmp_ge _ _).mp c_191
                        refine lv_lconst (v := 1) hx hb dX7_factor_200 rfl ?_
                        refine e_l (y := sgL u) ((by unfold sgL; rw [if_neg (Int64.not_lt.mpr c_191)])) ?_
                        exact J_4  H locs ls  (hP.sub [0, 1, 2] rfl) (hD.sub [0, 1, 2] (by decide) rfl) hS (lv_sub hl [0, 1, 2, 3, 4, 5, 6, 7, 8] rfl)
                      · have c_191 : ¬ 0 ≤ u := fun h => c_191 ((lg_cmp_ge _ _).mpr h)
                        refine lv_ldc2 hx hb hown (hts _ q2180) dX7_factor_194 ?_
                        refine lv_goto (tgt := 201) hx hb dX7_factor_197 (by decide) ?_
                        refine e_l (y := sgL u) ((by unfold sgL; rw [if_pos (Int64.not_le.mp c_191)])) ?_
                        exact J_4  H locs ls  (hP.sub [0, 1, 2] rfl) (hD.sub [0, 1, 2] (by decide) rfl) hS (lv_sub hl [0, 1, 2, 3, 4, 5, 6, 7, 8] rfl)
                    · have c_118 : ¬ (p0 + q0 + r0) ≤ k := fun h => c_118 ((nI_leI (a := (p0 + q0 + r0)) (b := k) (by omega) (by omega)).mpr h)
                      have hk7 : 2 ^ k < 32 := p5 (by omega)
                      have ho8 := or32 hr9 hk7
                      refine lv_aload_n hx hb dX7_factor_121 rfl (lv_at hl 0 rfl) ?_
                      refine va_get (D := (dC, dI)) (ci := 2) (v := .ref (o 6)) (C := RX7) (T := TX7) (N := 27) hx hb hts in_X7 hown hK hP 0 rfl rfl 9 (by decide) (hts _ q2015) (fun _ h9 => h9) rfl dX7_factor_122 ?_
                      refine lv_iconst (v := nI 1) hx hb dX7_factor_125 (by decide) ?_
                      refine lv_iload hx hb dX7_factor_126 (lv_at hl 8 rfl) ?_
                      refine lv_ishl hx hb dX7_factor_128 ?_
                      refine e_i (y := nI (2 ^ k)) (n_shl1 (by omega)) ?_
                      refine lv_iload hx hb dX7_factor_129 (lv_at hl 7 rfl) ?_
                      refine lv_iload hx hb dX7_factor_131 (lv_at hl 8 rfl) ?_
                      refine lv_ishr hx hb dX7_factor_133 ?_
                      refine e_i (y := nI ((st ^^^ (2 ^ ke)) / 2 ^ k)) (n_shr (by omega) (by omega)) ?_
                      refine lv_iconst (v := nI 1) hx hb dX7_factor_134 (by decide) ?_
                      refine lv_iand hx hb dX7_factor_135 ?_
                      refine e_i (y := nI (((st ^^^ (2 ^ ke)) / 2 ^ k) &&& 1)) (n_and _ _) ?_
                      refine lv_iconst (v := nI 1) hx hb dX7_factor_136 (by decide) ?_
                      refine lv_icmp_ne (tgt := 144) hx hb dX7_factor_137 (by decide) (fun c_137 => ?_) (fun c_137 => ?_)
                      · have c_137 : ¬ (((st ^^^ (2 ^ ke)) / 2 ^ k) &&& 1) = 1 := fun h => c_137 ((nI_eq (a := (((st ^^^ (2 ^ ke)) / 2 ^ k) &&& 1)) (b := 1) (Nat.lt_of_le_of_lt Nat.and_le_right (by decide)) (by omega)).mpr h)
                        refine lv_iload hx hb dX7_factor_144 (lv_at hl 7 rfl) ?_
                        refine lv_iconst (v := nI 1) hx hb dX7_factor_146 (by decide) ?_
                        refine lv_iload hx hb dX7_factor_147 (lv_at hl 8 rfl) ?_
                        refine lv_ishl hx hb dX7_factor_149 ?_
                        refine e_i (y := nI (2 ^ k)) (n_shl1 (by omega)) ?_
                        refine s_i (va_runS (As := [.int (nI (st ^^^ (2 ^ ke))), .int (nI (2 ^ k))]) (rest := [.int (nI (2 ^ k)), .ref (o 6)]) ⟨hx, hb, hml, hown, hts⟩ (x7_order Z (st ^^^ (2 ^ ke)) (2 ^ k) (by omega) (by omega)) (va_cwS 2 hts (lw_S q2155 q2156 q107 q2157) rfl rfl rfl (by decide +kernel) ⟨Nat.le_of_ble_eq_true rfl, Nat.le_of_ble_eq_true rfl⟩) (gP_S hG hS (fun q _ h => h.elim) trivial) rfl rfl hl.1 rfl (lv_room (Nat.le_of_ble_eq_true rfl)) dX7_factor_150 ⟨by first | decide | omega, by first | decide | omega⟩) ?_
                        refine lv_i2l (v := (ordS (st ^^^ (2 ^ ke)) (2 ^ k)).toInt64) hx hb dX7_factor_153 rfl ?_
                        refine lv_aload_n hx hb dX7_factor_154 rfl (lv_at hl 0 rfl) ?_
                        refine lv_iload_n hx hb dX7_factor_155 rfl (lv_at hl 2 rfl) ?_
                        refine lv_iload hx hb dX7_factor_156 (lv_at hl 7 rfl) ?_
                        refine lv_iconst (v := nI 1) hx hb dX7_factor_158 (by decide) ?_
                        refine lv_iload hx hb dX7_factor_159 (lv_at hl 8 rfl) ?_
                        refine lv_ishl hx hb dX7_factor_161 ?_
                        refine e_i (y := nI (2 ^ k)) (n_shl1 (by omega)) ?_
                        refine lv_ior hx hb dX7_factor_162 ?_
                        refine e_i (y := nI ((st ^^^ (2 ^ ke)) ||| (2 ^ k))) (n_or _ _) ?_
                        refine s_l (va_runV (As := [.int (nI ja), .int (nI ((st ^^^ (2 ^ ke)) ||| (2 ^ k)))]) (rest := [.long ((ordS (st ^^^ (2 ^ ke)) (2 ^ k)).toInt64), .int (nI (2 ^ k)), .ref (o 6)]) ⟨hx, hb, hml, hown, hts⟩ (x7_of Z o th p0 q0 r0 1 zz fA ja ((st ^^^ (2 ^ ke)) ||| (2 ^ k)) (by omega)) (cwV 2 hts (lw_V q2119 q2121 qs38 q107 q2122) rfl rfl rfl (by decide +kernel) ⟨Nat.le_of_ble_eq_true rfl, Nat.le_of_ble_eq_true rfl⟩) (gP_V (va_recv hK hP (ci := 2) (q0 := 0) rfl rfl) hG hS (fun q _ h => h.elim) (hP.sub (ws' := [(o 0, .inr (2, mFs o th p0 q0 r0 1 zz)), (o 5, .inl (dA 1, 2640, .inr (.inl fA)))]) [0, 1] rfl)) rfl rfl hl.1 rfl (lv_room (Nat.le_of_ble_eq_true rfl)) dX7_factor_163 ⟨by first | decide | omega, by first | decide | omega⟩) ?_
                        refine e_l (y := (Ms ja) (((st ^^^ (2 ^ ke)) ||| (2 ^ k)) + 1)) (hold_at (hR ja (by omega)) (i := ((st ^^^ (2 ^ ke)) ||| (2 ^ k)) + 1) (by omega) (by omega)) ?_
                        refine lv_lmul hx hb dX7_factor_166 ?_
                        refine a_last hx hb hK hP hD hS 2 1 rfl rfl (by omega) (by omega) dX7_factor_167 (fun H locs hP hD hS => ?_)
                        have hP : va_P (dC, dI) vwCl [(o 0, .inr (2, mFs o th p0 q0 r0 1 zz)), (o 5, .inl (dA 1, 2640, .inr (.inl fA))), (o 6, .inl (dA 1, 32, .inr (.inl (vp_updL (pvS (facV (Ms ja) (st ^^^ 2 ^ ke)) k) (2 ^ k) (((ordS (st ^^^ (2 ^ ke)) (2 ^ k)).toInt64) * ((Ms ja) (((st ^^^ (2 ^ ke)) ||| (2 ^ k)) + 1)))))))] H := hP
                        have hD : va_D A [(o 0, .inr (2, mFs o th p0 q0 r0 1 zz)), (o 5, .inl (dA 1, 2640, .inr (.inl fA))), (o 6, .inl (dA 1, 32, .inr (.inl (vp_updL (pvS (facV (Ms ja) (st ^^^ 2 ^ ke)) k) (2 ^ k) (((ordS (st ^^^ (2 ^ ke)) (2 ^ k)).toInt64) * ((Ms ja) (((st ^^^ (2 ^ ke)) ||| (2 ^ k)) + 1)))))))] := hD
                        have e9 : (vp_updL (pvS (facV (Ms ja) (st ^^^ 2 ^ ke)) k) (2 ^ k) (((ordS (st ^^^ (2 ^ ke)) (2 ^ k)).toInt64) * ((Ms ja) (((st ^^^ (2 ^ ke)) ||| (2 ^ k)) + 1))) : Nat → Int64) = (pvS (facV (Ms ja) (st ^^^ 2 ^ ke)) (k + 1)) := (by show vp_updL _ _ _ = vp_updL _ _ (facV _ _ k); unfold facV; rw [if_neg c_137])
                        rw [e9] at hP hD; clear e9
                        refine lv_iinc (v := nI (k + 1)) (lv' := [(8, .int (nI (k + 1))), (0, .ref (o 0)), (1, .int (nI jt)), (2, .int (nI ja)), (3, .int (nI ji)), (4, .int (nI st)), (5, .int (nI (drpN st ji))), (6, .int (nI (2 ^ ke))), (7, .int (nI (st ^^^ (2 ^ ke))))]) hx hb dX7_factor_168 hl (k := 8) rfl (by exact nI_add _ 1) (by decide) rfl (fun ls hl => ?_)
                        refine lv_goto (tgt := 112) hx hb dX7_factor_171 (by decide) ?_
                        exact ih_3 (k + 1) H locs ls (by omega) (by omega) (hP.sub [0, 1, 2] rfl) (hD.sub [0, 1, 2] (by decide) rfl) hS (lv_sub hl [1, 2, 3, 4, 5, 6, 7, 8, 0] rfl)
                      · have c_137 : (((st ^^^ (2 ^ ke)) / 2 ^ k) &&& 1) = 1 := (nI_eq (a := (((st ^^^ (2 ^ ke)) / 2 ^ k) &&& 1)) (b := 1) (Nat.lt_of_le_of_lt Nat.and_le_right (by decide)) (by omega)).mp c_137
                        refine lv_lconst (v := 0) hx hb dX7_factor_140 rfl ?_
                        refine lv_goto (tgt := 167) hx hb dX7_factor_141 (by decide) ?_
                        refine a_last hx hb hK hP hD hS 2 1 rfl rfl (by omega) (by omega) dX7_factor_167 (fun H locs hP hD hS => ?_)
                        have hP : va_P (dC, dI) vwCl [(o 0, .inr (2, mFs o th p0 q0 r0 1 zz)), (o 5, .inl (dA 1, 2640, .inr (.inl fA))), (o 6, .inl (dA 1, 32, .inr (.inl (vp_updL (pvS (facV (Ms ja) (st ^^^ 2 ^ ke)) k) (2 ^ k) 0))))] H := hP
                        have hD : va_D A [(o 0, .inr (2, mFs o th p0 q0 r0 1 zz)), (o 5, .inl (dA 1, 2640, .inr (.inl fA))), (o 6, .inl (dA 1, 32, .inr (.inl (vp_updL (pvS (facV (Ms ja) (st ^^^ 2 ^ ke)) k) (2 ^ k) 0))))] := hD
                        have e9 : (vp_updL (pvS (facV (Ms ja) (st ^^^ 2 ^ ke)) k) (2 ^ k) 0 : Nat → Int64) = (pvS (facV (Ms ja) (st ^^^ 2 ^ ke)) (k + 1)) := (by show vp_updL _ _ _ = vp_updL _ _ (facV _ _ k); rw [show facV (Ms ja) (st ^^^ 2 ^ ke) k = 0 from by unfold facV; rw [if_pos c_137]])
                        rw [e9] at hP hD; clear e9
                        refine lv_iinc (v := nI (k + 1)) (lv' := [(8, .int (nI (k + 1))), (0, .ref (o 0)), (1, .int (nI jt)), (2, .int (nI ja)), (3, .int (nI ji)), (4, .int (nI st)), (5, .int (nI (drpN st ji))), (6, .int (nI (2 ^ ke))), (7, .int (nI (st ^^^ (2 ^ ke))))]) hx hb dX7_factor_168 hl (k := 8) rfl (by exact nI_add _ 1) (by decide) rfl (fun ls hl => ?_)
                        refine lv_goto (tgt := 112) hx hb dX7_factor_171 (by decide) ?_
                        exact ih_3 (k + 1) H locs ls (by omega) (by omega) (hP.sub [0, 1, 2] rfl) (hD.sub [0, 1, 2] (by decide) rfl) hS (lv_sub hl [1, 2, 3, 4, 5, 6, 7, 8, 0] rfl)
                exact loop_3 _ 0 H locs ls (Nat.lt_succ_self _) (by omega) hP hD hS (lv_sub hl [3, 4, 5, 6, 7, 8, 2, 1, 0] rfl)
              · have c_72 : ¬ ji ≤ k := fun h => c_72 ((nI_leI (a := ji) (b := k) (by omega) (by omega)).mpr h)
                refine lv_iload hx hb dX7_factor_75 (lv_at hl 5 rfl) ?_
                refine lv_iload hx hb dX7_factor_77 (lv_at hl 5 rfl) ?_
                refine lv_iconst (v := nI 1) hx hb dX7_factor_79 (by decide) ?_
                refine lv_isub hx hb dX7_factor_80 ?_
                refine e_i (y := nI ((drpN st k) - 1)) (pk_sub (by omega)) ?_
                refine lv_iand hx hb dX7_factor_81 ?_
                refine e_i (y := nI ((drpN st k) &&& ((drpN st k) - 1))) (n_and _ _) ?_
                refine lv_istore (lv' := [(5, .int (nI ((drpN st k) &&& ((drpN st k) - 1)))), (0, .ref (o 0)), (1, .int (nI jt)), (2, .int (nI ja)), (3, .int (nI ji)), (4, .int (nI st)), (6, .int (nI k))]) hx hb dX7_factor_82 hl (by decide) rfl (fun ls hl => ?_)
                refine lv_iinc (v := nI (k + 1)) (lv' := [(6, .int (nI (k + 1))), (5, .int (nI ((drpN st k) &&& ((drpN st k) - 1)))), (0, .ref (o 0)), (1, .int (nI jt)), (2, .int (nI ja)), (3, .int (nI ji)), (4, .int (nI st))]) hx hb dX7_factor_84 hl (k := 6) rfl (by exact nI_add _ 1) (by decide) rfl (fun ls hl => ?_)
                refine lv_goto (tgt := 69) hx hb dX7_factor_87 (by decide) ?_
                exact ih_2 (k + 1) H locs ls (by omega) (by omega) (hP.sub [0, 1, 2] rfl) (hD.sub [0, 1, 2] (by decide) rfl) hS (lv_sub hl [2, 3, 4, 5, 6, 1, 0] rfl)
          exact loop_2 _ 0 s.heap [] ls (Nat.lt_succ_self _) (by omega) hP hD hS (lv_sub hl [3, 4, 5, 6, 2, 1, 0] rfl)
        · have h_i := bI_0 c_53
          refine lv_aload_n hx hb dX7_factor_56 rfl (lv_at hl 1 rfl) ?_
          refine lv_iconst (v := nI 3) hx hb dX7_factor_57 (by decide) ?_
          have hF9 := va_free (wc := [(o 0, .inr (2, mFs o th p0 q0 r0 mu zz))]) hD hS (fun q h => hA q h) [0] rfl
          refine c_i (wr := [(o 5, .inl (dA 1, 2640, .inr (.inl fA))), (o 6, .inl (dA 1, 32, .inr (.inl fM)))]) (va_runV (As := [.int (nI 3)]) (rest := []) ⟨hx, hb, hml, hown, hts⟩ (x7_refuses Z (va_A [(o 0, .inr (2, mFs o th p0 q0 r0 mu zz))] s.heap.size) s.heap.size (fun q h => Or.inr h) o th p0 q0 r0 mu zz (nI 3)) (cwV 1 hts (lw_V q2100 q2102 qs34 q107 q2103) rfl rfl rfl (by decide +kernel) ⟨Nat.le_of_ble_eq_true rfl, Nat.le_of_ble_eq_true rfl⟩) (gP_V (va_recv hK hP (ci := 2) (q0 := 0) rfl rfl) hG hS (fun q _ h => hF9 q h) ⟨rfl, (hP.sub (ws' := [(o 0, .inr (2, mFs o th p0 q0 r0 mu zz))]) [0] rfl), (hD.sub (ws' := [(o 0, .inr (2, mFs o th p0 q0 r0 mu zz))]) [0] (by decide) rfl).self⟩) rfl rfl hl.1 rfl (lv_room (Nat.le_of_ble_eq_true rfl)) dX7_factor_58 ⟨by first | decide | omega, by first | decide | omega⟩) hP hD hS hA [0] [1, 2] rfl rfl (by decide) (by decide) (fun r9 u9 H locs hq hX hz hk hP hD hS => ?_)
          obtain ⟨r_23, rfl⟩ : ∃ z, z = r9 := ⟨_, rfl⟩
          obtain rfl := hq
          have hP : va_P (dC, dI) vwCl [(o 5, .inl (dA 1, 2640, .inr (.inl fA))), (o 6, .inl (dA 1, 32, .inr (.inl fM))), (o 0, .inr (2, mFs o (nI 3) p0 q0 r0 mu zz))] H := hP
          have hD : va_D A [(o 5, .inl (dA 1, 2640, .inr (.inl fA))), (o 6, .inl (dA 1, 32, .inr (.inl fM))), (o 0, .inr (2, mFs o (nI 3) p0 q0 r0 mu zz))] := hD
          subst hQe
          exact W.iret (v := nI 0) hx hb hr (fun t ht hW => ⟨⟨_, (fA, fM, mu, nI 3), rfl, ModPost.mk0 (c := nI 3) (by simp [facX, rgB, optC, h_t, h_a, h_i, hb_25, rg_n (show jt < 8 by omega), rg_n (show ja < 8 by omega), nI_clamp (show jt < 2 ^ 31 by omega), nI_clamp (show ja < 2 ^ 31 by omega)]) (fun k9 hk9 i9 hi9 => rfl), B1_at ht (hP.sub [2, 0, 1] rfl) (hD.sub [2, 0, 1] (by decide) rfl) trivial⟩, hS.F ht⟩) hS.2.2 dX7_factor_61
      · have hb_25 := bI_0 c_25
        refine lv_aload_n hx hb dX7_factor_28 rfl (lv_at hl 0 rfl) ?_
        refine lv_iconst (v := nI 2) hx hb dX7_factor_29 (by decide) ?_
        have hF9 := va_free (wc := [(o 0, .inr (2, mFs o th p0 q0 r0 mu zz))]) hD hS (fun q h => hA q h) [0] rfl
        refine c_i (wr := [(o 5, .inl (dA 1, 2640, .inr (.inl fA))), (o 6, .inl (dA 1, 32, .inr (.inl fM)))]) (va_runV (As := [.int (nI 2)]) (rest := []) ⟨hx, hb, hml, hown, hts⟩ (x7_refuses Z (va_A [(o 0, .inr (2, mFs o th p0 q0 r0 mu zz))] s.heap.size) s.heap.size (fun q h => Or.inr h) o th p0 q0 r0 mu zz (nI 2)) (cwV 1 hts (lw_V q2100 q2102 qs34 q107 q2103) rfl rfl rfl (by decide +kernel) ⟨Nat.le_of_ble_eq_true rfl, Nat.le_of_ble_eq_true rfl⟩) (gP_V (va_recv hK hP (ci := 2) (q0 := 0) rfl rfl) hG hS (fun q _ h => hF9 q h) ⟨rfl, (hP.sub (ws' := [(o 0, .inr (2, mFs o th p0 q0 r0 mu zz))]) [0] rfl), (hD.sub (ws' := [(o 0, .inr (2, mFs o th p0 q0 r0 mu zz))]) [0] (by decide) rfl).self⟩) rfl rfl hl.1 rfl (lv_room (Nat.le_of_ble_eq_true rfl)) dX7_factor_30 ⟨by first | decide | omega, by first | decide | omega⟩) hP hD hS hA [0] [1, 2] rfl rfl (by decide) (by decide) (fun r9 u9 H locs hq hX hz hk hP hD hS => ?_)
        obtain ⟨r_24, rfl⟩ : ∃ z, z = r9 := ⟨_, rfl⟩
        obtain rfl := hq
        have hP : va_P (dC, dI) vwCl [(o 5, .inl (dA 1, 2640, .inr (.inl fA))), (o 6, .inl (dA 1, 32, .inr (.inl fM))), (o 0, .inr (2, mFs o (nI 2) p0 q0 r0 mu zz))] H := hP
        have hD : va_D A [(o 5, .inl (dA 1, 2640, .inr (.inl fA))), (o 6, .inl (dA 1, 32, .inr (.inl fM))), (o 0, .inr (2, mFs o (nI 2) p0 q0 r0 mu zz))] := hD
        subst hQe
        exact W.iret (v := nI 0) hx hb hr (fun t ht hW => ⟨⟨_, (fA, fM, mu, nI 2), rfl, ModPost.mk0 (c := nI 2) (by simp [facX, rgB, optC, h_t, h_a, hb_25, rg_n (show jt < 8 by omega), rg_n (show ja < 8 by omega), nI_clamp (show jt < 2 ^ 31 by omega), nI_clamp (show ja < 2 ^ 31 by omega)]) (fun k9 hk9 i9 hi9 => rfl), B1_at ht (hP.sub [2, 0, 1] rfl) (hD.sub [2, 0, 1] (by decide) rfl) trivial⟩, hS.F ht⟩) hS.2.2 dX7_factor_33
    · have h_a := bI_0 c_11
      refine lv_aload_n hx hb dX7_factor_14 rfl (lv_at hl 0 rfl) ?_
      refine lv_iconst (v := nI 1) hx hb dX7_factor_15 (by decide) ?_
      have hF9 := va_free (wc := [(o 0, .inr (2, mFs o th p0 q0 r0 mu zz))]) hD hS (fun q h => hA q h) [0] rfl
      refine c_i (wr := [(o 5, .inl (dA 1, 2640, .inr (.inl fA))), (o 6, .inl (dA 1, 32, .inr (.inl fM)))]) (va_runV (As := [.int (nI 1)]) (rest := []) ⟨hx, hb, hml, hown, hts⟩ (x7_refuses Z (va_A [(o 0, .inr (2, mFs o th p0 q0 r0 mu zz))] s.heap.size) s.heap.size (fun q h => Or.inr h) o th p0 q0 r0 mu zz (nI 1)) (cwV 1 hts (lw_V q2100 q2102 qs34 q107 q2103) rfl rfl rfl (by decide +kernel) ⟨Nat.le_of_ble_eq_true rfl, Nat.le_of_ble_eq_true rfl⟩) (gP_V (va_recv hK hP (ci := 2) (q0 := 0) rfl rfl) hG hS (fun q _ h => hF9 q h) ⟨rfl, (hP.sub (ws' := [(o 0, .inr (2, mFs o th p0 q0 r0 mu zz))]) [0] rfl), (hD.sub (ws' := [(o 0, .inr (2, mFs o th p0 q0 r0 mu zz))]) [0] (by decide) rfl).self⟩) rfl rfl hl.1 rfl (lv_room (Nat.le_of_ble_eq_true rfl)) dX7_factor_16 ⟨by first | decide | omega, by first | decide | omega⟩) hP hD hS hA [0] [1, 2] rfl rfl (by decide) (by decide) (fun r9 u9 H locs hq hX hz hk hP hD hS => ?_)
      obtain ⟨r_25, rfl⟩ : ∃ z, z = r9 := ⟨_, rfl⟩
      obtain rfl := hq
      have hP : va_P (dC, dI) vwCl [(o 5, .inl (dA 1, 2640, .inr (.inl fA))), (o 6, .inl (dA 1, 32, .inr (.inl fM))), (o 0, .inr (2, mFs o (nI 1) p0 q0 r0 mu zz))] H := hP
      have hD : va_D A [(o 5, .inl (dA 1, 2640, .inr (.inl fA))), (o 6, .inl (dA 1, 32, .inr (.inl fM))), (o 0, .inr (2, mFs o (nI 1) p0 q0 r0 mu zz))] := hD
      subst hQe
      exact W.iret (v := nI 0) hx hb hr (fun t ht hW => ⟨⟨_, (fA, fM, mu, nI 1), rfl, ModPost.mk0 (c := nI 1) (by simp [facX, rgB, optC, h_t, h_a, rg_n (show jt < 8 by omega), nI_clamp (show jt < 2 ^ 31 by omega)]) (fun k9 hk9 i9 hi9 => rfl), B1_at ht (hP.sub [2, 0, 1] rfl) (hD.sub [2, 0, 1] (by decide) rfl) trivial⟩, hS.F ht⟩) hS.2.2 dX7_factor_19
