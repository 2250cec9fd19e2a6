def dgV (T : Nat → Nat) (b : Nat) : Nat → Nat
  | 0 => 0
  | k + 1 => T (b + k) - 48
theorem dgV_lt (fT : Nat → Int32) (b : Nat) : ∀ k, dgV (tx fT) b k < 256
  | 0 => show 0 < 256 by decide
  | k + 1 => Nat.lt_of_le_of_lt (Nat.sub_le _ _) (tx_lt fT _)
theorem inB_dig {x n : Nat} (hx : x < 2 ^ 30) (hn : n < 2 ^ 30) (h : inB (nI (x - 48)) (nI 1) (nI n) = true) : 49 ≤ x ∧ x - 48 ≤ n := by
  unfold inB at h
  rw [Bool.and_eq_true, decide_eq_true_iff, decide_eq_true_iff] at h
  have h1 := (nI_leI (a := 1) (b := x - 48) (by omega) (by omega)).mp h.1
  have h2 := (nI_leI (a := x - 48) (b := n) (by omega) (by omega)).mp h.2
  omega
theorem inB_dign {x n : Nat} (hx : x < 2 ^ 30) (hn : n < 2 ^ 30) (h : inB (nI (x - 48)) (nI 1) (nI n) = false) : ¬ (49 ≤ x ∧ x - 48 ≤ n) := fun c => by
  unfold inB at h
  rw [decide_eq_true ((nI_leI (a := 1) (b := x - 48) (by omega) (by omega)).mpr (by omega)), decide_eq_true ((nI_leI (a := x - 48) (b := n) (by omega) (by omega)).mpr c.2)] at h
  cases h
theorem bld_hold {f : Nat → Int64} {k b : Nat} {s : Int32} (h : Hold f k (numM 0)) : Hold (vp_updL f (33 * k + 1 + b) s.toInt64) k (bldM s b) := fun i hi => by
  by_cases e : i = b + 1
  · subst e
    rw [show 33 * k + (b + 1) = 33 * k + 1 + b by omega, pk_uLs]
    show _ = if b + 1 = 0 then 1 else if b + 1 = b + 1 then s.toInt64 else 0
    rw [if_neg (by omega), if_pos rfl]
  · rw [pk_uLn (by omega), h i hi]
    show (if i = 0 then (1 : Int64) else if i = 1 then 0 else 0) = if i = 0 then 1 else if i = b + 1 then s.toInt64 else 0
    split
    · rfl
    · first | (split <;> rfl) | (rw [if_neg e]; split <;> rfl)
set_option maxHeartbeats 4000000 in
theorem x7_readsName {l : Launch} {dC : Nat → ClassId} {dI : Nat → Nat → Nat} {dA : Nat → ClassId} {s0 : State} {b0 : Addr} (Z : Z0 l dC dI dA s0 b0) (A : Nat → Prop) (sz : Nat) (hA : ∀ q : Nat, sz ≤ q → A q) (o : Nat → Nat) (th : Int32) (p0 q0 r0 : Nat) (mu : Int64) (ln at_ : Nat) (er ea : Int32) (vs wn op_ : Nat) (bw bb bp : Bool) (uf : Int32) (wr_ : Nat) (fT : Nat → Int32) (fA : Nat → Int64) (Ms : Nat → MV) (hn : p0 + q0 + r0 ≤ 5) (hR : ∀ k, k < 8 → Hold fA k (Ms k)) (hl9 : ln ≤ 200) (ha9 : at_ < ln) (hvs : vs < 48) : Met l yX7_readsName (ws_ yX7_readsName cX7_readsName 10 none) ({ frames := 4, cells := 0, slots := 0, locals := 240 } : Room) (gP [.ref (o 0)] s0 A (fun H => H.size = sz ∧ va_P (dC, dI) vwCl [(o 0, .inr (2, mFs o th p0 q0 r0 mu (zP ln at_ (nI 0) ea vs wn op_ bw bb bp uf wr_))), (o 5, .inl (dA 1, 2640, .inr (.inl fA))), (o 7, .inl (dA 2, 200, .inl fT))] H ∧ va_D A [(o 0, .inr (2, mFs o th p0 q0 r0 mu (zP ln at_ (nI 0) ea vs wn op_ bw bb bp uf wr_))), (o 5, .inl (dA 1, 2640, .inr (.inl fA))), (o 7, .inl (dA 2, 200, .inl fT))])) (va_Qv (S := Nat → Int64) (fun u => (namE (tx fT) ln (p0 + q0 + r0) at_ = 0 → Hold u (32 + vs) (namM (tx fT) ln p0 q0 r0 Ms at_)) ∧ Same fA u (32 + vs)) (B1 (dC, dI) A (fun u => [(o 0, .inr (2, mFs o th p0 q0 r0 mu (zP ln (dE (tx fT) ln (at_ + 1)) (nI (namE (tx fT) ln (p0 + q0 + r0) at_)) (if namE (tx fT) ln (p0 + q0 + r0) at_ = 0 then ea else nI at_) (vs + 1) wn op_ false bb false uf wr_))), (o 5, .inl (dA 1, 2640, .inr (.inl u))), (o 7, .inl (dA 2, 200, .inl fT))]) (fun _ _ => True)) A) 0 0 A := by
  refine Met.ofW (cc := cX7_readsName) (maxL := 10) (ret := none) (by decide) rfl ?_
  intro p e s m args below meth c s₁ B hml hv
  obtain ⟨hav, hG, hsz, hP, hD⟩ := hv
  have hx := B.exec
  have hb := B.bytes
  have hr := B.returns
  have hts := atoms_spec (ws := (ws_ yX7_readsName cX7_readsName 10 none)) B.pre
  have hts : ∀ w ∈ lw_all, w.before _ s = true := fun w h => hts w (List.mem_cons_of_mem _ h)
  have hown : s.vm.findClass RX7 = some m.cls := findClass_of_methodNamed B.named
  have hlocks := B.notSynchronized
  have hK := hG.K Z
  subst hsz
  have hS : va_S A s.heap s.heap [] := va_S.rf
  have hl := lv_entry ([.ref (o 0)]) (n := 10) (Nat.le_of_ble_eq_true rfl)
  rw [show entryFrame m args 10 = entryFrame m ([.ref (o 0)] : List Value).toArray 10 from by rw [hav], lg_entry_eq]
  generalize (lg_sl ([.ref (o 0)]) ++ List.replicate (10 - (lg_sl ([.ref (o 0)])).length) Slot.unset).toArray = ls at hl ⊢
  have hl : lv_has ls 10 [(0, .ref (o 0))] := hl
  generalize hQe : MQ below _ _ s _ _ _ = Q
  change W p l e ({ frames := 4, cells := 0, slots := 0, locals := 240 } : Room) s m args below meth c s.heap [] 0 0 Q (F0 m 0 ls [])
  have hn5 := (pow5 hn).1
  have hta := tx_lt fT at_
  refine lv_aload_n hx hb dX7_readsName_0 rfl (lv_at hl 0 rfl) ?_
  refine va_get (D := (dC, dI)) (ci := 2) (v := .int (nI at_)) (C := RX7) (T := TX7) (N := 27) hx hb hts in_X7 hown hK hP 0 rfl rfl 13 (by decide) (hts _ q2019) (fun _ h9 => h9) rfl dX7_readsName_1 ?_
  refine lv_istore_n (lv' := [(1, .int (nI at_)), (0, .ref (o 0))]) hx hb dX7_readsName_4 rfl hl (by decide) rfl (fun ls hl => ?_)
  refine lv_aload_n hx hb dX7_readsName_5 rfl (lv_at hl 1 rfl) ?_
  refine s_i (va_runV (As := []) (rest := []) ⟨hx, hb, hml, hown, hts⟩ (x7_see Z o th p0 q0 r0 mu ln at_ (nI 0) ea vs wn op_ bw bb bp uf wr_ fT (by omega) (by omega)) (cwV 0 hts (lw_V q2438 q2440 qs79 q107 q2441) rfl rfl rfl (by decide +kernel) ⟨Nat.le_of_ble_eq_true rfl, Nat.le_of_ble_eq_true rfl⟩) (gP_V (va_recv hK hP (ci := 2) (q0 := 0) rfl rfl) hG hS (fun q _ h => h.elim) (hP.sub (ws' := [(o 0, .inr (2, mFs o th p0 q0 r0 mu (zP ln at_ (nI 0) ea vs wn op_ bw bb bp uf wr_))), (o 7, .inl (dA 2, 200, .inl fT))]) [0, 2] rfl)) rfl rfl hl.1 rfl (lv_room (Nat.le_of_ble_eq_true rfl)) dX7_readsName_6 ⟨by first | decide | omega, by first | decide | omega⟩) ?_
  refine e_i (y := nI (tx fT at_)) ((by rw [ch_lt ha9]; exact chI_n (tx_lt _ _))) ?_
  refine lv_bipush (v := nI 101) hx hb dX7_readsName_9 (by decide) ?_
  refine lv_icmp_ne (tgt := 18) hx hb dX7_readsName_11 (by decide) (fun c_11 => ?_) (fun c_11 => ?_)
  · have c_11 : ¬ (tx fT at_) = 101 := fun h => c_11 ((nI_eq (a := (tx fT at_)) (b := 101) (by omega) (by omega)).mpr h)
    refine lv_iconst (v := nI 0) hx hb dX7_readsName_18 (by decide) ?_
    refine lv_istore_n (lv' := [(2, .int (nI 0)), (1, .int (nI at_)), (0, .ref (o 0))]) hx hb dX7_readsName_19 rfl hl (by decide) rfl (fun ls hl => ?_)
    refine lv_aload_n hx hb dX7_readsName_20 rfl (lv_at hl 2 rfl) ?_
    refine lv_dup hx hb dX7_readsName_21 rfl ?_
    refine va_get (D := (dC, dI)) (ci := 2) (v := .int (nI at_)) (C := RX7) (T := TX7) (N := 27) hx hb hts in_X7 hown hK hP 0 rfl rfl 13 (by decide) (hts _ q2019) (fun _ h9 => h9) rfl dX7_readsName_22 ?_
    refine lv_iconst (v := nI 1) hx hb dX7_readsName_25 (by decide) ?_
    refine lv_iadd hx hb dX7_readsName_26 ?_
    refine e_i (y := nI (at_ + 1)) (nI_add _ _) ?_
    refine va_put (D := (dC, dI)) (ci := 2) (v := .int (nI (at_ + 1))) (ty := .int) (C := RX7) (T := TX7) (N := 27) hx hb hts in_X7 tyX7 tyX7_ok nmX7 hown hK hP hD hS 0 rfl rfl 13 (by decide) (hts _ q2019) (fun _ h9 => h9) rfl (by decide +kernel) rfl rfl (Nat.le_of_ble_eq_true rfl) dX7_readsName_27 (fun H locs hP hD hS => ?_)
    have hP : va_P (dC, dI) vwCl [(o 0, .inr (2, mFs o th p0 q0 r0 mu (zP ln (at_ + 1) (nI 0) ea vs wn op_ bw bb bp uf wr_))), (o 5, .inl (dA 1, 2640, .inr (.inl fA))), (o 7, .inl (dA 2, 200, .inl fT))] H := hP
    have hD : va_D A [(o 0, .inr (2, mFs o th p0 q0 r0 mu (zP ln (at_ + 1) (nI 0) ea vs wn op_ bw bb bp uf wr_))), (o 5, .inl (dA 1, 2640, .inr (.inl fA))), (o 7, .inl (dA 2, 200, .inl fT))] := hD
    refine lv_aload_n hx hb dX7_readsName_30 rfl (lv_at hl 2 rfl) ?_
    refine va_get (D := (dC, dI)) (ci := 2) (v := .int (nI (at_ + 1))) (C := RX7) (T := TX7) (N := 27) hx hb hts in_X7 hown hK hP 0 rfl rfl 13 (by decide) (hts _ q2019) (fun _ h9 => h9) rfl dX7_readsName_31 ?_
    refine lv_istore_n (lv' := [(3, .int (nI (at_ + 1))), (2, .int (nI 0)), (1, .int (nI at_)), (0, .ref (o 0))]) hx hb dX7_readsName_34 rfl hl (by decide) rfl (fun ls hl => ?_)
    refine lv_bipush (v := nI 32) hx hb dX7_readsName_35 (by decide) ?_
    refine lv_aload_n hx hb dX7_readsName_37 rfl (lv_at hl 3 rfl) ?_
    refine va_get (D := (dC, dI)) (ci := 2) (v := .int (nI vs)) (C := RX7) (T := TX7) (N := 27) hx hb hts in_X7 hown hK hP 0 rfl rfl 16 (by decide) (hts _ q2022) (fun _ h9 => h9) rfl dX7_readsName_38 ?_
    refine lv_iadd hx hb dX7_readsName_41 ?_
    refine e_i (y := nI (32 + vs)) (nI_add _ _) ?_
    refine lv_istore (lv' := [(4, .int (nI (32 + vs))), (3, .int (nI (at_ + 1))), (2, .int (nI 0)), (1, .int (nI at_)), (0, .ref (o 0))]) hx hb dX7_readsName_42 hl (by decide) rfl (fun ls hl => ?_)
    refine lv_aload_n hx hb dX7_readsName_44 rfl (lv_at hl 4 rfl) ?_
    refine lv_iload hx hb dX7_readsName_45 (lv_at hl 0 rfl) ?_
    have hF9 := va_free (wc := [(o 0, .inr (2, mFs o th p0 q0 r0 mu (zP ln (at_ + 1) (nI 0) ea vs wn op_ bw bb bp uf wr_))), (o 5, .inl (dA 1, 2640, .inr (.inl fA)))]) hD hS (fun q h => hA q h) [0, 1] rfl
    refine c_v (wr := [(o 7, .inl (dA 2, 200, .inl fT))]) (va_runV (As := [.int (nI (32 + vs))]) (rest := []) ⟨hx, hb, hml, hown, hts⟩ (x7_empties Z (va_A [(o 0, .inr (2, mFs o th p0 q0 r0 mu (zP ln (at_ + 1) (nI 0) ea vs wn op_ bw bb bp uf wr_))), (o 5, .inl (dA 1, 2640, .inr (.inl fA)))] H.size) H.size (fun q h => Or.inr h) o th p0 q0 r0 mu (zP ln (at_ + 1) (nI 0) ea vs wn op_ bw bb bp uf wr_) fA (fun _ => 0) (32 + vs) (by omega)) (cwV 1 hts (lw_V q2221 q2223 qs54 q107 q2224) rfl rfl rfl (by decide +kernel) ⟨Nat.le_of_ble_eq_true rfl, Nat.le_of_ble_eq_true rfl⟩) (gP_V (va_recv hK hP (ci := 2) (q0 := 0) rfl rfl) hG hS (fun q _ h => hF9 q h) ⟨rfl, (hP.sub (ws' := [(o 0, .inr (2, mFs o th p0 q0 r0 mu (zP ln (at_ + 1) (nI 0) ea vs wn op_ bw bb bp uf wr_))), (o 5, .inl (dA 1, 2640, .inr (.inl fA)))]) [0, 1] rfl), (hD.sub (ws' := [(o 0, .inr (2, mFs o th p0 q0 r0 mu (zP ln (at_ + 1) (nI 0) ea vs wn op_ bw bb bp uf wr_))), (o 5, .inl (dA 1, 2640, .inr (.inl fA)))]) [0, 1] (by decide) rfl).self⟩) rfl rfl hl.1 rfl (lv_room (Nat.le_of_ble_eq_true rfl)) dX7_readsName_47 ⟨by first | decide | omega, by first | decide | omega⟩) hP hD hS hA [0, 1] [2] rfl rfl (by decide) (by decide) (fun u9 H locs hq hX hz hk hP hD hS => ?_)
    obtain ⟨fA_1, rfl⟩ : ∃ z, z = u9 := ⟨_, rfl⟩
    have hq_2 := hq
    have hP : va_P (dC, dI) vwCl [(o 7, .inl (dA 2, 200, .inl fT)), (o 0, .inr (2, mFs o th p0 q0 r0 mu (zP ln (at_ + 1) (nI 0) ea vs wn op_ bw bb bp uf wr_))), (o 5, .inl (dA 1, 2640, .inr (.inl fA_1)))] H := hP
    have hD : va_D A [(o 7, .inl (dA 2, 200, .inl fT)), (o 0, .inr (2, mFs o th p0 q0 r0 mu (zP ln (at_ + 1) (nI 0) ea vs wn op_ bw bb bp uf wr_))), (o 5, .inl (dA 1, 2640, .inr (.inl fA_1)))] := hD
    obtain ⟨hH_k_3, hS_k_3⟩ := hq_2
    refine lv_iconst (v := nI 0) hx hb dX7_readsName_50 (by decide) ?_
    refine lv_istore (lv' := [(5, .int (nI 0)), (4, .int (nI (32 + vs))), (3, .int (nI (at_ + 1))), (2, .int (nI 0)), (1, .int (nI at_)), (0, .ref (o 0))]) hx hb dX7_readsName_51 hl (by decide) rfl (fun ls hl => ?_)
    refine lv_iconst (v := nI 1) hx hb dX7_readsName_53 (by decide) ?_
    refine lv_istore (lv' := [(6, .int (nI 1)), (5, .int (nI 0)), (4, .int (nI (32 + vs))), (3, .int (nI (at_ + 1))), (2, .int (nI 0)), (1, .int (nI at_)), (0, .ref (o 0))]) hx hb dX7_readsName_54 hl (by decide) rfl (fun ls hl => ?_)
    refine lv_iconst (v := nI 0) hx hb dX7_readsName_56 (by decide) ?_
    refine lv_istore (lv' := [(7, .int (nI 0)), (6, .int (nI 1)), (5, .int (nI 0)), (4, .int (nI (32 + vs))), (3, .int (nI (at_ + 1))), (2, .int (nI 0)), (1, .int (nI at_)), (0, .ref (o 0))]) hx hb dX7_readsName_57 hl (by decide) rfl (fun ls hl => ?_)
    refine lv_iconst (v := nI 1) hx hb dX7_readsName_59 (by decide) ?_
    refine lv_istore (lv' := [(8, .int (nI 1)), (7, .int (nI 0)), (6, .int (nI 1)), (5, .int (nI 0)), (4, .int (nI (32 + vs))), (3, .int (nI (at_ + 1))), (2, .int (nI 0)), (1, .int (nI at_)), (0, .ref (o 0))]) hx hb dX7_readsName_60 hl (by decide) rfl (fun ls hl => ?_)
    have hHe := hH_k_3
    have hSe := hS_k_3
    have hP : va_P (dC, dI) vwCl [(o 7, .inl (dA 2, 200, .inl fT)), (o 0, .inr (2, mFs o th p0 q0 r0 mu (zP ln (at_ + 1 + 0) (nI 0) ea vs wn op_ bw bb bp uf wr_))), (o 5, .inl (dA 1, 2640, .inr (.inl fA_1)))] H := hP
    have hD : va_D A [(o 7, .inl (dA 2, 200, .inl fT)), (o 0, .inr (2, mFs o th p0 q0 r0 mu (zP ln (at_ + 1 + 0) (nI 0) ea vs wn op_ bw bb bp uf wr_))), (o 5, .inl (dA 1, 2640, .inr (.inl fA_1)))] := hD
    have loop_4 : ∀ (n9_4 : Nat) (k : Nat) (H : Heap) (locs : List Loc) (ls : Array Slot), ln - (at_ + 1 + k) < n9_4 → (at_ + 1 + k ≤ ln) → (dE (tx fT) ln (at_ + 1 + k) = (dE (tx fT) ln (at_ + 1))) → va_P (dC, dI) vwCl [(o 7, .inl (dA 2, 200, .inl fT)), (o 0, .inr (2, mFs o th p0 q0 r0 mu (zP ln (at_ + 1 + k) (nI 0) ea vs wn op_ bw bb bp uf wr_))), (o 5, .inl (dA 1, 2640, .inr (.inl fA_1)))] H → va_D A [(o 7, .inl (dA 2, 200, .inl fT)), (o 0, .inr (2, mFs o th p0 q0 r0 mu (zP ln (at_ + 1 + k) (nI 0) ea vs wn op_ bw bb bp uf wr_))), (o 5, .inl (dA 1, 2640, .inr (.inl fA_1)))] → va_S A s.heap H locs → lv_has ls 10 [(0, .ref (o 0)), (1, .int (nI at_)), (2, .int (nI 0)), (3, .int (nI (at_ + 1))), (4, .int (nI (32 + vs))), (5, .int (nI 0)), (6, .int (nI 1)), (7, .int (nI (dgV (tx fT) (at_ + 1) k))), (8, .int (nI 1))] → W p l e ({ frames := 4, cells := 0, slots := 0, locals := 240 } : Room) s m args below meth c H locs 0 0 Q (F0 m 62 ls []) := by
      intro n9_4
      induction n9_4 with
      | zero => intro k H locs ls hm_4; exact absurd hm_4 (Nat.not_lt_zero _)
      | succ n9_4 ih_4 =>
        intro k H locs ls hm_4 hi9 hs9 hP hD hS hl
        refine lv_aload_n hx hb dX7_readsName_62 rfl (lv_at hl 0 rfl) ?_
        refine s_i (va_runV (As := []) (rest := []) ⟨hx, hb, hml, hown, hts⟩ (x7_isDigit Z o th p0 q0 r0 mu ln (at_ + 1 + k) (nI 0) ea vs wn op_ bw bb bp uf wr_ fT (by omega) (by omega)) (cwV 0 hts (lw_V q2446 q2448 qs81 q107 q2449) rfl rfl rfl (by decide +kernel) ⟨Nat.le_of_ble_eq_true rfl, Nat.le_of_ble_eq_true rfl⟩) (gP_V (va_recv hK hP (ci := 2) (q0 := 1) rfl rfl) hG hS (fun q _ h => h.elim) (hP.sub (ws' := [(o 0, .inr (2, mFs o th p0 q0 r0 mu (zP ln (at_ + 1 + k) (nI 0) ea vs wn op_ bw bb bp uf wr_))), (o 7, .inl (dA 2, 200, .inl fT))]) [1, 0] rfl)) rfl rfl hl.1 rfl (lv_room (Nat.le_of_ble_eq_true rfl)) dX7_readsName_63 ⟨by first | decide | omega, by first | decide | omega⟩) ?_
        refine lv_if_eq (tgt := 165) hx hb dX7_readsName_66 (by decide) (fun c_66 => ?_) (fun c_66 => ?_)
        · have hdg8 := dgV_lt fT (at_ + 1) k
          have hdE : (dE (tx fT) ln (at_ + 1)) = at_ + 1 + k := by rw [← hs9]; exact runE_f (bI_0 c_66)
          have hk8 : (dE (tx fT) ln (at_ + 1)) - (at_ + 1) = k := by rw [hdE]; omega
          refine lv_aload_n hx hb dX7_readsName_165 rfl (lv_at hl 0 rfl) ?_
          refine va_get (D := (dC, dI)) (ci := 2) (v := .int (nI (at_ + 1 + k))) (C := RX7) (T := TX7) (N := 27) hx hb hts in_X7 hown hK hP 1 rfl rfl 13 (by decide) (hts _ q2019) (fun _ h9 => h9) rfl dX7_readsName_166 ?_
          refine lv_iload_n hx hb dX7_readsName_169 rfl (lv_at hl 3 rfl) ?_
          refine lv_isub hx hb dX7_readsName_170 ?_
          refine e_i (y := nI k) ((pk_sub (by omega)).trans (n_eq (by omega))) ?_
          refine lv_istore (lv' := [(9, .int (nI k)), (0, .ref (o 0)), (1, .int (nI at_)), (2, .int (nI 0)), (3, .int (nI (at_ + 1))), (4, .int (nI (32 + vs))), (5, .int (nI 0)), (6, .int (nI 1)), (7, .int (nI (dgV (tx fT) (at_ + 1) k))), (8, .int (nI 1))]) hx hb dX7_readsName_171 hl (by decide) rfl (fun ls hl => ?_)
          refine lv_iload hx hb dX7_readsName_173 (lv_at hl 0 rfl) ?_
          refine lv_if_ne (tgt := 184) hx hb dX7_readsName_175 (by decide) (fun c_175 => ?_) (fun c_175 => ?_)
          · have c_175 : ¬ k = 0 := fun h => c_175 ((nI_eq (a := k) (b := 0) (by omega) (by omega)).mpr h)
            have hk0 : ¬ k = 0 := c_175
            refine lv_iload hx hb dX7_readsName_184 (lv_at hl 9 rfl) ?_
            refine lv_if_eq (tgt := 215) hx hb dX7_readsName_186 (by decide) (fun c_186 => ?_) (fun c_186 => ?_)
            · exact absurd c_186 (by decide)
            refine lv_iload hx hb dX7_readsName_189 (lv_at hl 0 rfl) ?_
            refine lv_iload_n hx hb dX7_readsName_191 rfl (lv_at hl 3 rfl) ?_
            refine lv_if_eq (tgt := 200) hx hb dX7_readsName_192 (by decide) (fun c_192 => ?_) (fun c_192 => ?_)
            rotate_left
            · exact absurd (by decide) c_192
            refine lv_iconst (v := nI 1) hx hb dX7_readsName_200 (by decide) ?_
            refine lv_icmp_gt (tgt := 215) hx hb dX7_readsName_201 (by decide) (fun c_201 => ?_) (fun c_201 => ?_)
            · have c_201 : 1 < k := (nI_ltI (a := 1) (b := k) (by omega) (by omega)).mp c_201
              have hNE : namE (tx fT) ln (p0 + q0 + r0) at_ = 2 := by unfold namE; rw [hk8, if_neg hk0, if_neg c_11, if_neg (by omega)]
              refine lv_aload_n hx hb dX7_readsName_215 rfl (lv_at hl 1 rfl) ?_
              refine lv_iconst (v := nI 2) hx hb dX7_readsName_216 (by decide) ?_
              refine lv_iload_n hx hb dX7_readsName_217 rfl (lv_at hl 2 rfl) ?_
              have hF9 := va_free (wc := [(o 0, .inr (2, mFs o th p0 q0 r0 mu (zP ln (at_ + 1 + k) (nI 0) ea vs wn op_ bw bb bp uf wr_)))]) hD hS (fun q h => hA q h) [1] rfl
              refine c_v (wr := [(o 7, .inl (dA 2, 200, .inl fT)), (o 5, .inl (dA 1, 2640, .inr (.inl fA_1)))]) (va_runV (As := [.int (nI 2), .int (nI at_)]) (rest := []) ⟨hx, hb, hml, hown, hts⟩ (x7_fails Z (va_A [(o 0, .inr (2, mFs o th p0 q0 r0 mu (zP ln (at_ + 1 + k) (nI 0) ea vs wn op_ bw bb bp uf wr_)))] H.size) H.size (fun q h => Or.inr h) o th p0 q0 r0 mu ln (at_ + 1 + k) (nI 0) ea vs wn op_ bw bb bp uf wr_ (nI 2) (nI at_)) (cwV 2 hts (lw_V q2458 q2460 qs84 q107 q2461) rfl rfl rfl (by decide +kernel) ⟨Nat.le_of_ble_eq_true rfl, Nat.le_of_ble_eq_true rfl⟩) (gP_V (va_recv hK hP (ci := 2) (q0 := 1) rfl rfl) hG hS (fun q _ h => hF9 q h) ⟨rfl, (hP.sub (ws' := [(o 0, .inr (2, mFs o th p0 q0 r0 mu (zP ln (at_ + 1 + k) (nI 0) ea vs wn op_ bw bb bp uf wr_)))]) [1] rfl), (hD.sub (ws' := [(o 0, .inr (2, mFs o th p0 q0 r0 mu (zP ln (at_ + 1 + k) (nI 0) ea vs wn op_ bw bb bp uf wr_)))]) [1] (by decide) rfl).self⟩) rfl rfl hl.1 rfl (lv_room (Nat.le_of_ble_eq_true rfl)) dX7_readsName_218 ⟨by first | decide | omega, by first | decide | omega⟩) hP hD hS hA [1] [0, 2] rfl rfl (by decide) (by decide) (fun u9 H locs hq hX hz hk hP hD hS => ?_)
              have hP : va_P (dC, dI) vwCl [(o 7, .inl (dA 2, 200, .inl fT)), (o 5, .inl (dA 1, 2640, .inr (.inl fA_1))), (o 0, .inr (2, mFs o th p0 q0 r0 mu (zP ln (at_ + 1 + k) (nI 2) (nI at_) vs wn op_ bw bb bp uf wr_)))] H := hP
              have hD : va_D A [(o 7, .inl (dA 2, 200, .inl fT)), (o 5, .inl (dA 1, 2640, .inr (.inl fA_1))), (o 0, .inr (2, mFs o th p0 q0 r0 mu (zP ln (at_ + 1 + k) (nI 2) (nI at_) vs wn op_ bw bb bp uf wr_)))] := hD
              refine lv_iload_n hx hb dX7_readsName_221 rfl (lv_at hl 3 rfl) ?_
              refine lv_if_eq (tgt := 246) hx hb dX7_readsName_222 (by decide) (fun c_222 => ?_) (fun c_222 => ?_)
              rotate_left
              · exact absurd (by decide) c_222
              refine lv_aload_n hx hb dX7_readsName_246 rfl (lv_at hl 1 rfl) ?_
              refine va_get (D := (dC, dI)) (ci := 2) (v := .int (nI 2)) (C := RX7) (T := TX7) (N := 27) hx hb hts in_X7 hown hK hP 2 rfl rfl 14 (by decide) (hts _ q2020) (fun _ h9 => h9) rfl dX7_readsName_247 ?_
              refine lv_if_ne (tgt := 261) hx hb dX7_readsName_250 (by decide) (fun c_250 => ?_) (fun c_250 => ?_)
              rotate_left
              · exact absurd c_250 (by decide)
              refine lv_aload_n hx hb dX7_readsName_261 rfl (lv_at hl 1 rfl) ?_
              refine lv_dup hx hb dX7_readsName_262 rfl ?_
              refine va_get (D := (dC, dI)) (ci := 2) (v := .int (nI vs)) (C := RX7) (T := TX7) (N := 27) hx hb hts in_X7 hown hK hP 2 rfl rfl 16 (by decide) (hts _ q2022) (fun _ h9 => h9) rfl dX7_readsName_263 ?_
              refine lv_iconst (v := nI 1) hx hb dX7_readsName_266 (by decide) ?_
              refine lv_iadd hx hb dX7_readsName_267 ?_
              refine e_i (y := nI (vs + 1)) (nI_add _ _) ?_
              refine va_put (D := (dC, dI)) (ci := 2) (v := .int (nI (vs + 1))) (ty := .int) (C := RX7) (T := TX7) (N := 27) hx hb hts in_X7 tyX7 tyX7_ok nmX7 hown hK hP hD hS 2 rfl rfl 16 (by decide) (hts _ q2022) (fun _ h9 => h9) rfl (by decide +kernel) rfl rfl (Nat.le_of_ble_eq_true rfl) dX7_readsName_268 (fun H locs hP hD hS => ?_)
              have hP : va_P (dC, dI) vwCl [(o 7, .inl (dA 2, 200, .inl fT)), (o 5, .inl (dA 1, 2640, .inr (.inl fA_1))), (o 0, .inr (2, mFs o th p0 q0 r0 mu (zP ln (at_ + 1 + k) (nI 2) (nI at_) (vs + 1) wn op_ bw bb bp uf wr_)))] H := hP
              have hD : va_D A [(o 7, .inl (dA 2, 200, .inl fT)), (o 5, .inl (dA 1, 2640, .inr (.inl fA_1))), (o 0, .inr (2, mFs o th p0 q0 r0 mu (zP ln (at_ + 1 + k) (nI 2) (nI at_) (vs + 1) wn op_ bw bb bp uf wr_)))] := hD
              refine lv_aload_n hx hb dX7_readsName_271 rfl (lv_at hl 1 rfl) ?_
              refine lv_iconst (v := nI 0) hx hb dX7_readsName_272 (by decide) ?_
              refine va_put (D := (dC, dI)) (ci := 2) (v := .int (nI 0)) (ty := .boolean) (C := RX7) (T := TX7) (N := 27) hx hb hts in_X7 tyX7 tyX7_ok nmX7 hown hK hP hD hS 2 rfl rfl 21 (by decide) (hts _ q2027) (fun _ h9 => h9) rfl (by decide +kernel) rfl rfl (Nat.le_of_ble_eq_true rfl) dX7_readsName_273 (fun H locs hP hD hS => ?_)
              have hP : va_P (dC, dI) vwCl [(o 7, .inl (dA 2, 200, .inl fT)), (o 5, .inl (dA 1, 2640, .inr (.inl fA_1))), (o 0, .inr (2, mFs o th p0 q0 r0 mu (zP ln (at_ + 1 + k) (nI 2) (nI at_) (vs + 1) wn op_ false bb bp uf wr_)))] H := hP
              have hD : va_D A [(o 7, .inl (dA 2, 200, .inl fT)), (o 5, .inl (dA 1, 2640, .inr (.inl fA_1))), (o 0, .inr (2, mFs o th p0 q0 r0 mu (zP ln (at_ + 1 + k) (nI 2) (nI at_) (vs + 1) wn op_ false bb bp uf wr_)))] := hD
              refine lv_aload_n hx hb dX7_readsName_276 rfl (lv_at hl 1 rfl) ?_
              refine lv_iconst (v := nI 0) hx hb dX7_readsName_277 (by decide) ?_
              refine va_put (D := (dC, dI)) (ci := 2) (v := .int (nI 0)) (ty := .boolean) (C := RX7) (T := TX7) (N := 27) hx hb hts in_X7 tyX7 tyX7_ok nmX7 hown hK hP hD hS 2 rfl rfl 23 (by decide) (hts _ q2029) (fun _ h9 => h9) rfl (by decide +kernel) rfl rfl (Nat.le_of_ble_eq_true rfl) dX7_readsName_278 (fun H locs hP hD hS => ?_)
              have hP : va_P (dC, dI) vwCl [(o 7, .inl (dA 2, 200, .inl fT)), (o 5, .inl (dA 1, 2640, .inr (.inl fA_1))), (o 0, .inr (2, mFs o th p0 q0 r0 mu (zP ln (at_ + 1 + k) (nI 2) (nI at_) (vs + 1) wn op_ false bb false uf wr_)))] H := hP
              have hD : va_D A [(o 7, .inl (dA 2, 200, .inl fT)), (o 5, .inl (dA 1, 2640, .inr (.inl fA_1))), (o 0, .inr (2, mFs o th p0 q0 r0 mu (zP ln (at_ + 1 + k) (nI 2) (nI at_) (vs + 1) wn op_ false bb false uf wr_)))] := hD
              subst hQe
              exact W.vret hx hb hr (fun tz ht hW => ⟨⟨fA_1, rfl, ⟨fun h => absurd (hNE.symm.trans h) (by decide), hSe⟩, B1_at ht (by rw [hNE, hdE]; exact hP.sub [2, 1, 0] rfl) (by rw [hNE, hdE]; exact hD.sub [2, 1, 0] (by decide) rfl) trivial⟩, hS.F ht⟩) hS.2.2 dX7_readsName_281
            · have c_201 : ¬ 1 < k := fun h => c_201 ((nI_ltI (a := 1) (b := k) (by omega) (by omega)).mpr h)
              refine lv_iload_n hx hb dX7_readsName_204 rfl (lv_at hl 3 rfl) ?_
              refine lv_if_ne (tgt := 221) hx hb dX7_readsName_205 (by decide) (fun c_205 => ?_) (fun c_205 => ?_)
              · exact absurd (by decide) c_205
              refine lv_iload hx hb dX7_readsName_208 (lv_at hl 8 rfl) ?_
              refine lv_bipush (v := nI 8) hx hb dX7_readsName_210 (by decide) ?_
              refine lv_icmp_lt (tgt := 221) hx hb dX7_readsName_212 (by decide) (fun c_212 => ?_) (fun c_212 => ?_)
              · have c_212 : (dgV (tx fT) (at_ + 1) k) < 8 := (nI_ltI (a := (dgV (tx fT) (at_ + 1) k)) (b := 8) (by omega) (by omega)).mp c_212
                obtain rfl : k = 1 := by omega
                have hd9 : tx fT (at_ + 1) - 48 < 8 := c_212
                have hNE : namE (tx fT) ln (p0 + q0 + r0) at_ = 0 := by unfold namE; rw [hk8, if_neg hk0, if_neg c_11, if_pos ⟨by omega, hd9⟩]
                refine lv_iload_n hx hb dX7_readsName_221 rfl (lv_at hl 3 rfl) ?_
                refine lv_if_eq (tgt := 246) hx hb dX7_readsName_222 (by decide) (fun c_222 => ?_) (fun c_222 => ?_)
                rotate_left
                · exact absurd (by decide) c_222
                refine lv_aload_n hx hb dX7_readsName_246 rfl (lv_at hl 1 rfl) ?_
                refine va_get (D := (dC, dI)) (ci := 2) (v := .int (nI 0)) (C := RX7) (T := TX7) (N := 27) hx hb hts in_X7 hown hK hP 1 rfl rfl 14 (by decide) (hts _ q2020) (fun _ h9 => h9) rfl dX7_readsName_247 ?_
                refine lv_if_ne (tgt := 261) hx hb dX7_readsName_250 (by decide) (fun c_250 => ?_) (fun c_250 => ?_)
                · exact absurd (by decide) c_250
                refine lv_aload_n hx hb dX7_readsName_253 rfl (lv_at hl 1 rfl) ?_
                refine lv_iload hx hb dX7_readsName_254 (lv_at hl 8 rfl) ?_
                refine lv_iload hx hb dX7_readsName_256 (lv_at hl 5 rfl) ?_
                refine e_i (y := nI (32 + vs)) (rfl) ?_
                have hF9 := va_free (wc := [(o 0, .inr (2, mFs o th p0 q0 r0 mu (zP ln (at_ + 1 + 1) (nI 0) ea vs wn op_ bw bb bp uf wr_))), (o 5, .inl (dA 1, 2640, .inr (.inl fA_1)))]) hD hS (fun q h => hA q h) [1, 2] rfl
                refine c_v (wr := [(o 7, .inl (dA 2, 200, .inl fT))]) (va_runV (As := [.int (nI (dgV (tx fT) (at_ + 1) 1)), .int (nI (32 + vs))]) (rest := []) ⟨hx, hb, hml, hown, hts⟩ (x7_copies Z (va_A [(o 0, .inr (2, mFs o th p0 q0 r0 mu (zP ln (at_ + 1 + 1) (nI 0) ea vs wn op_ bw bb bp uf wr_))), (o 5, .inl (dA 1, 2640, .inr (.inl fA_1)))] H.size) H.size (fun q h => Or.inr h) o th p0 q0 r0 mu (zP ln (at_ + 1 + 1) (nI 0) ea vs wn op_ bw bb bp uf wr_) fA_1 (fun _ => 0) (dgV (tx fT) (at_ + 1) 1) (32 + vs) (show tx fT (at_ + 1) - 48 < 80 by omega) (by omega)) (cwV 2 hts (lw_V q2185 q2187 qs49 q107 q2188) rfl rfl rfl (by decide +kernel) ⟨Nat.le_of_ble_eq_true rfl, Nat.le_of_ble_eq_true rfl⟩) (gP_V (va_recv hK hP (ci := 2) (q0 := 1) rfl rfl) hG hS (fun q _ h => hF9 q h) ⟨rfl, (hP.sub (ws' := [(o 0, .inr (2, mFs o th p0 q0 r0 mu (zP ln (at_ + 1 + 1) (nI 0) ea vs wn op_ bw bb bp uf wr_))), (o 5, .inl (dA 1, 2640, .inr (.inl fA_1)))]) [1, 2] rfl), (hD.sub (ws' := [(o 0, .inr (2, mFs o th p0 q0 r0 mu (zP ln (at_ + 1 + 1) (nI 0) ea vs wn op_ bw bb bp uf wr_))), (o 5, .inl (dA 1, 2640, .inr (.inl fA_1)))]) [1, 2] (by decide) rfl).self⟩) rfl rfl hl.1 rfl (lv_room (Nat.le_of_ble_eq_true rfl)) dX7_readsName_258 ⟨by first | decide | omega, by first | decide | omega⟩) hP hD hS hA [1, 2] [0] rfl rfl (by decide) (by decide) (fun u9 H locs hq hX hz hk hP hD hS => ?_)
                have hP : va_P (dC, dI) vwCl [(o 7, .inl (dA 2, 200, .inl fT)), (o 0, .inr (2, mFs o th p0 q0 r0 mu (zP ln (at_ + 1 + 1) (nI 0) ea vs wn op_ bw bb bp uf wr_))), (o 5, .inl (dA 1, 2640, .inr (.inl (cpS fA_1 (dgV (tx fT) (at_ + 1) 1) (32 + vs)))))] H := hP
                have hD : va_D A [(o 7, .inl (dA 2, 200, .inl fT)), (o 0, .inr (2, mFs o th p0 q0 r0 mu (zP ln (at_ + 1 + 1) (nI 0) ea vs wn op_ bw bb bp uf wr_))), (o 5, .inl (dA 1, 2640, .inr (.inl (cpS fA_1 (dgV (tx fT) (at_ + 1) 1) (32 + vs)))))] := hD
                refine lv_aload_n hx hb dX7_readsName_261 rfl (lv_at hl 1 rfl) ?_
                refine lv_dup hx hb dX7_readsName_262 rfl ?_
                refine va_get (D := (dC, dI)) (ci := 2) (v := .int (nI vs)) (C := RX7) (T := TX7) (N := 27) hx hb hts in_X7 hown hK hP 1 rfl rfl 16 (by decide) (hts _ q2022) (fun _ h9 => h9) rfl dX7_readsName_263 ?_
                refine lv_iconst (v := nI 1) hx hb dX7_readsName_266 (by decide) ?_
                refine lv_iadd hx hb dX7_readsName_267 ?_
                refine e_i (y := nI (vs + 1)) (nI_add _ _) ?_
                refine va_put (D := (dC, dI)) (ci := 2) (v := .int (nI (vs + 1))) (ty := .int) (C := RX7) (T := TX7) (N := 27) hx hb hts in_X7 tyX7 tyX7_ok nmX7 hown hK hP hD hS 1 rfl rfl 16 (by decide) (hts _ q2022) (fun _ h9 => h9) rfl (by decide +kernel) rfl rfl (Nat.le_of_ble_eq_true rfl) dX7_readsName_268 (fun H locs hP hD hS => ?_)
                have hP : va_P (dC, dI) vwCl [(o 7, .inl (dA 2, 200, .inl fT)), (o 0, .inr (2, mFs o th p0 q0 r0 mu (zP ln (at_ + 1 + 1) (nI 0) ea (vs + 1) wn op_ bw bb bp uf wr_))), (o 5, .inl (dA 1, 2640, .inr (.inl (cpS fA_1 (dgV (tx fT) (at_ + 1) 1) (32 + vs)))))] H := hP
                have hD : va_D A [(o 7, .inl (dA 2, 200, .inl fT)), (o 0, .inr (2, mFs o th p0 q0 r0 mu (zP ln (at_ + 1 + 1) (nI 0) ea (vs + 1) wn op_ bw bb bp uf wr_))), (o 5, .inl (dA 1, 2640, .inr (.inl (cpS fA_1 (dgV (tx fT) (at_ + 1) 1) (32 + vs)))))] := hD
                refine lv_aload_n hx hb dX7_readsName_271 rfl (lv_at hl 1 rfl) ?_
                refine lv_iconst (v := nI 0) hx hb dX7_readsName_272 (by decide) ?_
                refine va_put (D := (dC, dI)) (ci := 2) (v := .int (nI 0)) (ty := .boolean) (C := RX7) (T := TX7) (N := 27) hx hb hts in_X7 tyX7 tyX7_ok nmX7 hown hK hP hD hS 1 rfl rfl 21 (by decide) (hts _ q2027) (fun _ h9 => h9) rfl (by decide +kernel) rfl rfl (Nat.le_of_ble_eq_true rfl) dX7_readsName_273 (fun H locs hP hD hS => ?_)
                have hP : va_P (dC, dI) vwCl [(o 7, .inl (dA 2, 200, .inl fT)), (o 0, .inr (2, mFs o th p0 q0 r0 mu (zP ln (at_ + 1 + 1) (nI 0) ea (vs + 1) wn op_ false bb bp uf wr_))), (o 5, .inl (dA 1, 2640, .inr (.inl (cpS fA_1 (dgV (tx fT) (at_ + 1) 1) (32 + vs)))))] H := hP
                have hD : va_D A [(o 7, .inl (dA 2, 200, .inl fT)), (o 0, .inr (2, mFs o th p0 q0 r0 mu (zP ln (at_ + 1 + 1) (nI 0) ea (vs + 1) wn op_ false bb bp uf wr_))), (o 5, .inl (dA 1, 2640, .inr (.inl (cpS fA_1 (dgV (tx fT) (at_ + 1) 1) (32 + vs)))))] := hD
                refine lv_aload_n hx hb dX7_readsName_276 rfl (lv_at hl 1 rfl) ?_
                refine lv_iconst (v := nI 0) hx hb dX7_readsName_277 (by decide) ?_
                refine va_put (D := (dC, dI)) (ci := 2) (v := .int (nI 0)) (ty := .boolean) (C := RX7) (T := TX7) (N := 27) hx hb hts in_X7 tyX7 tyX7_ok nmX7 hown hK hP hD hS 1 rfl rfl 23 (by decide) (hts _ q2029) (fun _ h9 => h9) rfl (by decide +kernel) rfl rfl (Nat.le_of_ble_eq_true rfl) dX7_readsName_278 (fun H locs hP hD hS => ?_)
                have hP : va_P (dC, dI) vwCl [(o 7, .inl (dA 2, 200, .inl fT)), (o 0, .inr (2, mFs o th p0 q0 r0 mu (zP ln (at_ + 1 + 1) (nI 0) ea (vs + 1) wn op_ false bb false uf wr_))), (o 5, .inl (dA 1, 2640, .inr (.inl (cpS fA_1 (dgV (tx fT) (at_ + 1) 1) (32 + vs)))))] H := hP
                have hD : va_D A [(o 7, .inl (dA 2, 200, .inl fT)), (o 0, .inr (2, mFs o th p0 q0 r0 mu (zP ln (at_ + 1 + 1) (nI 0) ea (vs + 1) wn op_ false bb false uf wr_))), (o 5, .inl (dA 1, 2640, .inr (.inl (cpS fA_1 (dgV (tx fT) (at_ + 1) 1) (32 + vs)))))] := hD
                subst hQe
                exact W.vret hx hb hr (fun tz ht hW => ⟨⟨cpS fA_1 (dgV (tx fT) (at_ + 1) 1) (32 + vs), rfl, ⟨fun _ => by unfold namM; rw [if_neg c_11]; exact cpS_hold (hSe.hold (by omega) (hR _ hd9)), fun j hj => by rw [cpS_same j hj]; exact hSe j hj⟩, B1_at ht (by rw [hNE, hdE]; exact hP.sub [1, 2, 0] rfl) (by rw [hNE, hdE]; exact hD.sub [1, 2, 0] (by decide) rfl) trivial⟩, hS.F ht⟩) hS.2.2 dX7_readsName_281
              · have c_212 : ¬ (dgV (tx fT) (at_ + 1) k) < 8 := fun h => c_212 ((nI_ltI (a := (dgV (tx fT) (at_ + 1) k)) (b := 8) (by omega) (by omega)).mpr h)
                obtain rfl : k = 1 := by omega
                have hd9 : ¬ tx fT (at_ + 1) - 48 < 8 := c_212
                have hNE : namE (tx fT) ln (p0 + q0 + r0) at_ = 2 := by unfold namE; rw [hk8, if_neg hk0, if_neg c_11, if_neg (fun h => hd9 h.2)]
                refine lv_aload_n hx hb dX7_readsName_215 rfl (lv_at hl 1 rfl) ?_
                refine lv_iconst (v := nI 2) hx hb dX7_readsName_216 (by decide) ?_
                refine lv_iload_n hx hb dX7_readsName_217 rfl (lv_at hl 2 rfl) ?_
                have hF9 := va_free (wc := [(o 0, .inr (2, mFs o th p0 q0 r0 mu (zP ln (at_ + 1 + 1) (nI 0) ea vs wn op_ bw bb bp uf wr_)))]) hD hS (fun q h => hA q h) [1] rfl
                refine c_v (wr := [(o 7, .inl (dA 2, 200, .inl fT)), (o 5, .inl (dA 1, 2640, .inr (.inl fA_1)))]) (va_runV (As := [.int (nI 2), .int (nI at_)]) (rest := []) ⟨hx, hb, hml, hown, hts⟩ (x7_fails Z (va_A [(o 0, .inr (2, mFs o th p0 q0 r0 mu (zP ln (at_ + 1 + 1) (nI 0) ea vs wn op_ bw bb bp uf wr_)))] H.size) H.size (fun q h => Or.inr h) o th p0 q0 r0 mu ln (at_ + 1 + 1) (nI 0) ea vs wn op_ bw bb bp uf wr_ (nI 2) (nI at_)) (cwV 2 hts (lw_V q2458 q2460 qs84 q107 q2461) rfl rfl rfl (by decide +kernel) ⟨Nat.le_of_ble_eq_true rfl, Nat.le_of_ble_eq_true rfl⟩) (gP_V (va_recv hK hP (ci := 2) (q0 := 1) rfl rfl) hG hS (fun q _ h => hF9 q h) ⟨rfl, (hP.sub (ws' := [(o 0, .inr (2, mFs o th p0 q0 r0 mu (zP ln (at_ + 1 + 1) (nI 0) ea vs wn op_ bw bb bp uf wr_)))]) [1] rfl), (hD.sub (ws' := [(o 0, .inr (2, mFs o th p0 q0 r0 mu (zP ln (at_ + 1 + 1) (nI 0) ea vs wn op_ bw bb bp uf wr_)))]) [1] (by decide) rfl).self⟩) rfl rfl hl.1 rfl (lv_room (Nat.le_of_ble_eq_true rfl)) dX7_readsName_218 ⟨by first | decide | omega, by first | decide | omega⟩) hP hD hS hA [1] [0, 2] rfl rfl (by decide) (by decide) (fun u9 H locs hq hX hz hk hP hD hS => ?_)
                have hP : va_P (dC, dI) vwCl [(o 7, .inl (dA 2, 200, .inl fT)), (o 5, .inl (dA 1, 2640, .inr (.inl fA_1))), (o 0, .inr (2, mFs o th p0 q0 r0 mu (zP ln (at_ + 1 + 1) (nI 2) (nI at_) vs wn op_ bw bb bp uf wr_)))] H := hP
                have hD : va_D A [(o 7, .inl (dA 2, 200, .inl fT)), (o 5, .inl (dA 1, 2640, .inr (.inl fA_1))), (o 0, .inr (2, mFs o th p0 q0 r0 mu (zP ln (at_ + 1 + 1) (nI 2) (nI at_) vs wn op_ bw bb bp uf wr_)))] := hD
                refine lv_iload_n hx hb dX7_readsName_221 rfl (lv_at hl 3 rfl) ?_
                refine lv_if_eq (tgt := 246) hx hb dX7_readsName_222 (by decide) (fun c_222 => ?_) (fun c_222 => ?_)
                rotate_left
                · exact absurd (by decide) c_222
                refine lv_aload_n hx hb dX7_readsName_246 rfl (lv_at hl 1 rfl) ?_
                refine va_get (D := (dC, dI)) (ci := 2) (v := .int (nI 2)) (C := RX7) (T := TX7) (N := 27) hx hb hts in_X7 hown hK hP 2 rfl rfl 14 (by decide) (hts _ q2020) (fun _ h9 => h9) rfl dX7_readsName_247 ?_
                refine lv_if_ne (tgt := 261) hx hb dX7_readsName_250 (by decide) (fun c_250 => ?_) (fun c_250 => ?_)
                rotate_left
                · exact absurd c_250 (by decide)
                refine lv_aload_n hx hb dX7_readsName_261 rfl (lv_at hl 1 rfl) ?_
                refine lv_dup hx hb dX7_readsName_262 rfl ?_
                refine va_get (D := (dC, dI)) (ci := 2) (v := .int (nI vs)) (C := RX7) (T := TX7) (N := 27) hx hb hts in_X7 hown hK hP 2 rfl rfl 16 (by decide) (hts _ q2022) (fun _ h9 => h9) rfl dX7_readsName_263 ?_
                refine lv_iconst (v := nI 1) hx hb dX7_readsName_266 (by decide) ?_
                refine lv_iadd hx hb dX7_readsName_267 ?_
                refine e_i (y := nI (vs + 1)) (nI_add _ _) ?_
                refine va_put (D := (dC, dI)) (ci := 2) (v := .int (nI (vs + 1))) (ty := .int) (C := RX7) (T := TX7) (N := 27) hx hb hts in_X7 tyX7 tyX7_ok nmX7 hown hK hP hD hS 2 rfl rfl 16 (by decide) (hts _ q2022) (fun _ h9 => h9) rfl (by decide +kernel) rfl rfl (Nat.le_of_ble_eq_true rfl) dX7_readsName_268 (fun H locs hP hD hS => ?_)
                have hP : va_P (dC, dI) vwCl [(o 7, .inl (dA 2, 200, .inl fT)), (o 5, .inl (dA 1, 2640, .inr (.inl fA_1))), (o 0, .inr (2, mFs o th p0 q0 r0 mu (zP ln (at_ + 1 + 1) (nI 2) (nI at_) (vs + 1) wn op_ bw bb bp uf wr_)))] H := hP
                have hD : va_D A [(o 7, .inl (dA 2, 200, .inl fT)), (o 5, .inl (dA 1, 2640, .inr (.inl fA_1))), (o 0, .inr (2, mFs o th p0 q0 r0 mu (zP ln (at_ + 1 + 1) (nI 2) (nI at_) (vs + 1) wn op_ bw bb bp uf wr_)))] := hD
                refine lv_aload_n hx hb dX7_readsName_271 rfl (lv_at hl 1 rfl) ?_
                refine lv_iconst (v := nI 0) hx hb dX7_readsName_272 (by decide) ?_
                refine va_put (D := (dC, dI)) (ci := 2) (v := .int (nI 0)) (ty := .boolean) (C := RX7) (T := TX7) (N := 27) hx hb hts in_X7 tyX7 tyX7_ok nmX7 hown hK hP hD hS 2 rfl rfl 21 (by decide) (hts _ q2027) (fun _ h9 => h9) rfl (by decide +kernel) rfl rfl (Nat.le_of_ble_eq_true rfl) dX7_readsName_273 (fun H locs hP hD hS => ?_)
                have hP : va_P (dC, dI) vwCl [(o 7, .inl (dA 2, 200, .inl fT)), (o 5, .inl (dA 1, 2640, .inr (.inl fA_1))), (o 0, .inr (2, mFs o th p0 q0 r0 mu (zP ln (at_ + 1 + 1) (nI 2) (nI at_) (vs + 1) wn op_ false bb bp uf wr_)))] H := hP
                have hD : va_D A [(o 7, .inl (dA 2, 200, .inl fT)), (o 5, .inl (dA 1, 2640, .inr (.inl fA_1))), (o 0, .inr (2, mFs o th p0 q0 r0 mu (zP ln (at_ + 1 + 1) (nI 2) (nI at_) (vs + 1) wn op_ false bb bp uf wr_)))] := hD
                refine lv_aload_n hx hb dX7_readsName_276 rfl (lv_at hl 1 rfl) ?_
                refine lv_iconst (v := nI 0) hx hb dX7_readsName_277 (by decide) ?_
                refine va_put (D := (dC, dI)) (ci := 2) (v := .int (nI 0)) (ty := .boolean) (C := RX7) (T := TX7) (N := 27) hx hb hts in_X7 tyX7 tyX7_ok nmX7 hown hK hP hD hS 2 rfl rfl 23 (by decide) (hts _ q2029) (fun _ h9 => h9) rfl (by decide +kernel) rfl rfl (Nat.le_of_ble_eq_true rfl) dX7_readsName_278 (fun H locs hP hD hS => ?_)
                have hP : va_P (dC, dI) vwCl [(o 7, .inl (dA 2, 200, .inl fT)), (o 5, .inl (dA 1, 2640, .inr (.inl fA_1))), (o 0, .inr (2, mFs o th p0 q0 r0 mu (zP ln (at_ + 1 + 1) (nI 2) (nI at_) (vs + 1) wn op_ false bb false uf wr_)))] H := hP
                have hD : va_D A [(o 7, .inl (dA 2, 200, .inl fT)), (o 5, .inl (dA 1, 2640, .inr (.inl fA_1))), (o 0, .inr (2, mFs o th p0 q0 r0 mu (zP ln (at_ + 1 + 1) (nI 2) (nI at_) (vs + 1) wn op_ false bb false uf wr_)))] := hD
                subst hQe
                exact W.vret hx hb hr (fun tz ht hW => ⟨⟨fA_1, rfl, ⟨fun h => absurd (hNE.symm.trans h) (by decide), hSe⟩, B1_at ht (by rw [hNE, hdE]; exact hP.sub [2, 1, 0] rfl) (by rw [hNE, hdE]; exact hD.sub [2, 1, 0] (by decide) rfl) trivial⟩, hS.F ht⟩) hS.2.2 dX7_readsName_281
          · have c_175 : k = 0 := (nI_eq (a := k) (b := 0) (by omega) (by omega)).mp c_175
            have hk0 : k = 0 := c_175
            have hNE : namE (tx fT) ln (p0 + q0 + r0) at_ = 1 := by unfold namE; rw [hk8, if_pos hk0]
            refine lv_aload_n hx hb dX7_readsName_178 rfl (lv_at hl 1 rfl) ?_
            refine lv_iconst (v := nI 1) hx hb dX7_readsName_179 (by decide) ?_
            refine lv_iload_n hx hb dX7_readsName_180 rfl (lv_at hl 2 rfl) ?_
            have hF9 := va_free (wc := [(o 0, .inr (2, mFs o th p0 q0 r0 mu (zP ln (at_ + 1 + k) (nI 0) ea vs wn op_ bw bb bp uf wr_)))]) hD hS (fun q h => hA q h) [1] rfl
            refine c_v (wr := [(o 7, .inl (dA 2, 200, .inl fT)), (o 5, .inl (dA 1, 2640, .inr (.inl fA_1)))]) (va_runV (As := [.int (nI 1), .int (nI at_)]) (rest := []) ⟨hx, hb, hml, hown, hts⟩ (x7_fails Z (va_A [(o 0, .inr (2, mFs o th p0 q0 r0 mu (zP ln (at_ + 1 + k) (nI 0) ea vs wn op_ bw bb bp uf wr_)))] H.size) H.size (fun q h => Or.inr h) o th p0 q0 r0 mu ln (at_ + 1 + k) (nI 0) ea vs wn op_ bw bb bp uf wr_ (nI 1) (nI at_)) (cwV 2 hts (lw_V q2458 q2460 qs84 q107 q2461) rfl rfl rfl (by decide +kernel) ⟨Nat.le_of_ble_eq_true rfl, Nat.le_of_ble_eq_true rfl⟩) (gP_V (va_recv hK hP (ci := 2) (q0 := 1) rfl rfl) hG hS (fun q _ h => hF9 q h) ⟨rfl, (hP.sub (ws' := [(o 0, .inr (2, mFs o th p0 q0 r0 mu (zP ln (at_ + 1 + k) (nI 0) ea vs wn op_ bw bb bp uf wr_)))]) [1] rfl), (hD.sub (ws' := [(o 0, .inr (2, mFs o th p0 q0 r0 mu (zP ln (at_ + 1 + k) (nI 0) ea vs wn op_ bw bb bp uf wr_)))]) [1] (by decide) rfl).self⟩) rfl rfl hl.1 rfl (lv_room (Nat.le_of_ble_eq_true rfl)) dX7_readsName_181 ⟨by first | decide | omega, by first | decide | omega⟩) hP hD hS hA [1] [0, 2] rfl rfl (by decide) (by decide) (fun u9 H locs hq hX hz hk hP hD hS => ?_)
            have hP : va_P (dC, dI) vwCl [(o 7, .inl (dA 2, 200, .inl fT)), (o 5, .inl (dA 1, 2640, .inr (.inl fA_1))), (o 0, .inr (2, mFs o th p0 q0 r0 mu (zP ln (at_ + 1 + k) (nI 1) (nI at_) vs wn op_ bw bb bp uf wr_)))] H := hP
            have hD : va_D A [(o 7, .inl (dA 2, 200, .inl fT)), (o 5, .inl (dA 1, 2640, .inr (.inl fA_1))), (o 0, .inr (2, mFs o th p0 q0 r0 mu (zP ln (at_ + 1 + k) (nI 1) (nI at_) vs wn op_ bw bb bp uf wr_)))] := hD
            refine lv_iload hx hb dX7_readsName_184 (lv_at hl 9 rfl) ?_
            refine lv_if_eq (tgt := 215) hx hb dX7_readsName_186 (by decide) (fun c_186 => ?_) (fun c_186 => ?_)
            · exact absurd c_186 (by decide)
            refine lv_iload hx hb dX7_readsName_189 (lv_at hl 0 rfl) ?_
            refine lv_iload_n hx hb dX7_readsName_191 rfl (lv_at hl 3 rfl) ?_
            refine lv_if_eq (tgt := 200) hx hb dX7_readsName_192 (by decide) (fun c_192 => ?_) (fun c_192 => ?_)
            rotate_left
            · exact absurd (by decide) c_192
            refine lv_iconst (v := nI 1) hx hb dX7_readsName_200 (by decide) ?_
            refine lv_icmp_gt (tgt := 215) hx hb dX7_readsName_201 (by decide) (fun c_201 => ?_) (fun c_201 => ?_)
            · have c_201 : 1 < k := (nI_ltI (a := 1) (b := k) (by omega) (by omega)).mp c_201
              refine lv_aload_n hx hb dX7_readsName_215 rfl (lv_at hl 1 rfl) ?_
              refine lv_iconst (v := nI 2) hx hb dX7_readsName_216 (by decide) ?_
              refine lv_iload_n hx hb dX7_readsName_217 rfl (lv_at hl 2 rfl) ?_
              have hF9 := va_free (wc := [(o 0, .inr (2, mFs o th p0 q0 r0 mu (zP ln (at_ + 1 + k) (nI 1) (nI at_) vs wn op_ bw bb bp uf wr_)))]) hD hS (fun q h => hA q h) [2] rfl
              refine c_v (wr := [(o 7, .inl (dA 2, 200, .inl fT)), (o 5, .inl (dA 1, 2640, .inr (.inl fA_1)))]) (va_runV (As := [.int (nI 2), .int (nI at_)]) (rest := []) ⟨hx, hb, hml, hown, hts⟩ (x7_fails Z (va_A [(o 0, .inr (2, mFs o th p0 q0 r0 mu (zP ln (at_ + 1 + k) (nI 1) (nI at_) vs wn op_ bw bb bp uf wr_)))] H.size) H.size (fun q h => Or.inr h) o th p0 q0 r0 mu ln (at_ + 1 + k) (nI 1) (nI at_) vs wn op_ bw bb bp uf wr_ (nI 2) (nI at_)) (cwV 2 hts (lw_V q2458 q2460 qs84 q107 q2461) rfl rfl rfl (by decide +kernel) ⟨Nat.le_of_ble_eq_true rfl, Nat.le_of_ble_eq_true rfl⟩) (gP_V (va_recv hK hP (ci := 2) (q0 := 2) rfl rfl) hG hS (fun q _ h => hF9 q h) ⟨rfl, (hP.sub (ws' := [(o 0, .inr (2, mFs o th p0 q0 r0 mu (zP ln (at_ + 1 + k) (nI 1) (nI at_) vs wn op_ bw bb bp uf wr_)))]) [2] rfl), (hD.sub (ws' := [(o 0, .inr (2, mFs o th p0 q0 r0 mu (zP ln (at_ + 1 + k) (nI 1) (nI at_) vs wn op_ bw bb bp uf wr_)))]) [2] (by decide) rfl).self⟩) rfl rfl hl.1 rfl (lv_room (Nat.le_of_ble_eq_true rfl)) dX7_readsName_218 ⟨by first | decide | omega, by first | decide | omega⟩) hP hD hS hA [2] [0, 1] rfl rfl (by decide) (by decide) (fun u9 H locs hq hX hz hk hP hD hS => ?_)
              have hP : va_P (dC, dI) vwCl [(o 7, .inl (dA 2, 200, .inl fT)), (o 5, .inl (dA 1, 2640, .inr (.inl fA_1))), (o 0, .inr (2, mFs o th p0 q0 r0 mu (zP ln (at_ + 1 + k) (nI 1) (nI at_) vs wn op_ bw bb bp uf wr_)))] H := hP
              have hD : va_D A [(o 7, .inl (dA 2, 200, .inl fT)), (o 5, .inl (dA 1, 2640, .inr (.inl fA_1))), (o 0, .inr (2, mFs o th p0 q0 r0 mu (zP ln (at_ + 1 + k) (nI 1) (nI at_) vs wn op_ bw bb bp uf wr_)))] := hD
              refine lv_iload_n hx hb dX7_readsName_221 rfl (lv_at hl 3 rfl) ?_
              refine lv_if_eq (tgt := 246) hx hb dX7_readsName_222 (by decide) (fun c_222 => ?_) (fun c_222 => ?_)
              rotate_left
              · exact absurd (by decide) c_222
              refine lv_aload_n hx hb dX7_readsName_246 rfl (lv_at hl 1 rfl) ?_
              refine va_get (D := (dC, dI)) (ci := 2) (v := .int (nI 1)) (C := RX7) (T := TX7) (N := 27) hx hb hts in_X7 hown hK hP 2 rfl rfl 14 (by decide) (hts _ q2020) (fun _ h9 => h9) rfl dX7_readsName_247 ?_
              refine lv_if_ne (tgt := 261) hx hb dX7_readsName_250 (by decide) (fun c_250 => ?_) (fun c_250 => ?_)
              rotate_left
              · exact absurd c_250 (by decide)
              refine lv_aload_n hx hb dX7_readsName_261 rfl (lv_at hl 1 rfl) ?_
              refine lv_dup hx hb dX7_readsName_262 rfl ?_
              refine va_get (D := (dC, dI)) (ci := 2) (v := .int (nI vs)) (C := RX7) (T := TX7) (N := 27) hx hb hts in_X7 hown hK hP 2 rfl rfl 16 (by decide) (hts _ q2022) (fun _ h9 => h9) rfl dX7_readsName_263 ?_
              refine lv_iconst (v := nI 1) hx hb dX7_readsName_266 (by decide) ?_
              refine lv_iadd hx hb dX7_readsName_267 ?_
              refine e_i (y := nI (vs + 1)) (nI_add _ _) ?_
              refine va_put (D := (dC, dI)) (ci := 2) (v := .int (nI (vs + 1))) (ty := .int) (C := RX7) (T := TX7) (N := 27) hx hb hts in_X7 tyX7 tyX7_ok nmX7 hown hK hP hD hS 2 rfl rfl 16 (by decide) (hts _ q2022) (fun _ h9 => h9) rfl (by decide +kernel) rfl rfl (Nat.le_of_ble_eq_true rfl) dX7_readsName_268 (fun H locs hP hD hS => ?_)
              have hP : va_P (dC, dI) vwCl [(o 7, .inl (dA 2, 200, .inl fT)), (o 5, .inl (dA 1, 2640, .inr (.inl fA_1))), (o 0, .inr (2, mFs o th p0 q0 r0 mu (zP ln (at_ + 1 + k) (nI 1) (nI at_) (vs + 1) wn op_ bw bb bp uf wr_)))] H := hP
              have hD : va_D A [(o 7, .inl (dA 2, 200, .inl fT)), (o 5, .inl (dA 1, 2640, .inr (.inl fA_1))), (o 0, .inr (2, mFs o th p0 q0 r0 mu (zP ln (at_ + 1 + k) (nI 1) (nI at_) (vs + 1) wn op_ bw bb bp uf wr_)))] := hD
              refine lv_aload_n hx hb dX7_readsName_271 rfl (lv_at hl 1 rfl) ?_
              refine lv_iconst (v := nI 0) hx hb dX7_readsName_272 (by decide) ?_
              refine va_put (D := (dC, dI)) (ci := 2) (v := .int (nI 0)) (ty := .boolean) (C := RX7) (T := TX7) (N := 27) hx hb hts in_X7 tyX7 tyX7_ok nmX7 hown hK hP hD hS 2 rfl rfl 21 (by decide) (hts _ q2027) (fun _ h9 => h9) rfl (by decide +kernel) rfl rfl (Nat.le_of_ble_eq_true rfl) dX7_readsName_273 (fun H locs hP hD hS => ?_)
              have hP : va_P (dC, dI) vwCl [(o 7, .inl (dA 2, 200, .inl fT)), (o 5, .inl (dA 1, 2640, .inr (.inl fA_1))), (o 0, .inr (2, mFs o th p0 q0 r0 mu (zP ln (at_ + 1 + k) (nI 1) (nI at_) (vs + 1) wn op_ false bb bp uf wr_)))] H := hP
              have hD : va_D A [(o 7, .inl (dA 2, 200, .inl fT)), (o 5, .inl (dA 1, 2640, .inr (.inl fA_1))), (o 0, .inr (2, mFs o th p0 q0 r0 mu (zP ln (at_ + 1 + k) (nI 1) (nI at_) (vs + 1) wn op_ false bb bp uf wr_)))] := hD
              refine lv_aload_n hx hb dX7_readsName_276 rfl (lv_at hl 1 rfl) ?_
              refine lv_iconst (v := nI 0) hx hb dX7_readsName_277 (by decide) ?_
              refine va_put (D := (dC, dI)) (ci := 2) (v := .int (nI 0)) (ty := .boolean) (C := RX7) (T := TX7) (N := 27) hx hb hts in_X7 tyX7 tyX7_ok nmX7 hown hK hP hD hS 2 rfl rfl 23 (by decide) (hts _ q2029) (fun _ h9 => h9) rfl (by decide +kernel) rfl rfl (Nat.le_of_ble_eq_true rfl) dX7_readsName_278 (fun H locs hP hD hS => ?_)
              have hP : va_P (dC, dI) vwCl [(o 7, .inl (dA 2, 200, .inl fT)), (o 5, .inl (dA 1, 2640, .inr (.inl fA_1))), (o 0, .inr (2, mFs o th p0 q0 r0 mu (zP ln (at_ + 1 + k) (nI 1) (nI at_) (vs + 1) wn op_ false bb false uf wr_)))] H := hP
              have hD : va_D A [(o 7, .inl (dA 2, 200, .inl fT)), (o 5, .inl (dA 1, 2640, .inr (.inl fA_1))), (o 0, .inr (2, mFs o th p0 q0 r0 mu (zP ln (at_ + 1 + k) (nI 1) (nI at_) (vs + 1) wn op_ false bb false uf wr_)))] := hD
              subst hQe
              exact W.vret hx hb hr (fun tz ht hW => ⟨⟨fA_1, rfl, ⟨fun h => absurd (hNE.symm.trans h) (by decide), hSe⟩, B1_at ht (by rw [hNE, hdE]; exact hP.sub [2, 1, 0] rfl) (by rw [hNE, hdE]; exact hD.sub [2, 1, 0] (by decide) rfl) trivial⟩, hS.F ht⟩) hS.2.2 dX7_readsName_281
            · have c_201 : ¬ 1 < k := fun h => c_201 ((nI_ltI (a := 1) (b := k) (by omega) (by omega)).mpr h)
              refine lv_iload_n hx hb dX7_readsName_204 rfl (lv_at hl 3 rfl) ?_
              refine lv_if_ne (tgt := 221) hx hb dX7_readsName_205 (by decide) (fun c_205 => ?_) (fun c_205 => ?_)
              · exact absurd (by decide) c_205
              refine lv_iload hx hb dX7_readsName_208 (lv_at hl 8 rfl) ?_
              refine lv_bipush (v := nI 8) hx hb dX7_readsName_210 (by decide) ?_
              refine lv_icmp_lt (tgt := 221) hx hb dX7_readsName_212 (by decide) (fun c_212 => ?_) (fun c_212 => ?_)
              · have c_212 : (dgV (tx fT) (at_ + 1) k) < 8 := (nI_ltI (a := (dgV (tx fT) (at_ + 1) k)) (b := 8) (by omega) (by omega)).mp c_212
                refine lv_iload_n hx hb dX7_readsName_221 rfl (lv_at hl 3 rfl) ?_
                refine lv_if_eq (tgt := 246) hx hb dX7_readsName_222 (by decide) (fun c_222 => ?_) (fun c_222 => ?_)
                rotate_left
                · exact absurd (by decide) c_222
                refine lv_aload_n hx hb dX7_readsName_246 rfl (lv_at hl 1 rfl) ?_
                refine va_get (D := (dC, dI)) (ci := 2) (v := .int (nI 1)) (C := RX7) (T := TX7) (N := 27) hx hb hts in_X7 hown hK hP 2 rfl rfl 14 (by decide) (hts _ q2020) (fun _ h9 => h9) rfl dX7_readsName_247 ?_
                refine lv_if_ne (tgt := 261) hx hb dX7_readsName_250 (by decide) (fun c_250 => ?_) (fun c_250 => ?_)
                rotate_left
                · exact absurd c_250 (by decide)
                refine lv_aload_n hx hb dX7_readsName_261 rfl (lv_at hl 1 rfl) ?_
                refine lv_dup hx hb dX7_readsName_262 rfl ?_
                refine va_get (D := (dC, dI)) (ci := 2) (v := .int (nI vs)) (C := RX7) (T := TX7) (N := 27) hx hb hts in_X7 hown hK hP 2 rfl rfl 16 (by decide) (hts _ q2022) (fun _ h9 => h9) rfl dX7_readsName_263 ?_
                refine lv_iconst (v := nI 1) hx hb dX7_readsName_266 (by decide) ?_
                refine lv_iadd hx hb dX7_readsName_267 ?_
                refine e_i (y := nI (vs + 1)) (nI_add _ _) ?_
                refine va_put (D := (dC, dI)) (ci := 2) (v := .int (nI (vs + 1))) (ty := .int) (C := RX7) (T := TX7) (N := 27) hx hb hts in_X7 tyX7 tyX7_ok nmX7 hown hK hP hD hS 2 rfl rfl 16 (by decide) (hts _ q2022) (fun _ h9 => h9) rfl (by decide +kernel) rfl rfl (Nat.le_of_ble_eq_true rfl) dX7_readsName_268 (fun H locs hP hD hS => ?_)
                have hP : va_P (dC, dI) vwCl [(o 7, .inl (dA 2, 200, .inl fT)), (o 5, .inl (dA 1, 2640, .inr (.inl fA_1))), (o 0, .inr (2, mFs o th p0 q0 r0 mu (zP ln (at_ + 1 + k) (nI 1) (nI at_) (vs + 1) wn op_ bw bb bp uf wr_)))] H := hP
                have hD : va_D A [(o 7, .inl (dA 2, 200, .inl fT)), (o 5, .inl (dA 1, 2640, .inr (.inl fA_1))), (o 0, .inr (2, mFs o th p0 q0 r0 mu (zP ln (at_ + 1 + k) (nI 1) (nI at_) (vs + 1) wn op_ bw bb bp uf wr_)))] := hD
                refine lv_aload_n hx hb dX7_readsName_271 rfl (lv_at hl 1 rfl) ?_
                refine lv_iconst (v := nI 0) hx hb dX7_readsName_272 (by decide) ?_
                refine va_put (D := (dC, dI)) (ci := 2) (v := .int (nI 0)) (ty := .boolean) (C := RX7) (T := TX7) (N := 27) hx hb hts in_X7 tyX7 tyX7_ok nmX7 hown hK hP hD hS 2 rfl rfl 21 (by decide) (hts _ q2027) (fun _ h9 => h9) rfl (by decide +kernel) rfl rfl (Nat.le_of_ble_eq_true rfl) dX7_readsName_273 (fun H locs hP hD hS => ?_)
                have hP : va_P (dC, dI) vwCl [(o 7, .inl (dA 2, 200, .inl fT)), (o 5, .inl (dA 1, 2640, .inr (.inl fA_1))), (o 0, .inr (2, mFs o th p0 q0 r0 mu (zP ln (at_ + 1 + k) (nI 1) (nI at_) (vs + 1) wn op_ false bb bp uf wr_)))] H := hP
                have hD : va_D A [(o 7, .inl (dA 2, 200, .inl fT)), (o 5, .inl (dA 1, 2640, .inr (.inl fA_1))), (o 0, .inr (2, mFs o th p0 q0 r0 mu (zP ln (at_ + 1 + k) (nI 1) (nI at_) (vs + 1) wn op_ false bb bp uf wr_)))] := hD
                refine lv_aload_n hx hb dX7_readsName_276 rfl (lv_at hl 1 rfl) ?_
                refine lv_iconst (v := nI 0) hx hb dX7_readsName_277 (by decide) ?_
                refine va_put (D := (dC, dI)) (ci := 2) (v := .int (nI 0)) (ty := .boolean) (C := RX7) (T := TX7) (N := 27) hx hb hts in_X7 tyX7 tyX7_ok nmX7 hown hK hP hD hS 2 rfl rfl 23 (by decide) (hts _ q2029) (fun _ h9 => h9) rfl (by decide +kernel) rfl rfl (Nat.le_of_ble_eq_true rfl) dX7_readsName_278 (fun H locs hP hD hS => ?_)
                have hP : va_P (dC, dI) vwCl [(o 7, .inl (dA 2, 200, .inl fT)), (o 5, .inl (dA 1, 2640, .inr (.inl fA_1))), (o 0, .inr (2, mFs o th p0 q0 r0 mu (zP ln (at_ + 1 + k) (nI 1) (nI at_) (vs + 1) wn op_ false bb false uf wr_)))] H := hP
                have hD : va_D A [(o 7, .inl (dA 2, 200, .inl fT)), (o 5, .inl (dA 1, 2640, .inr (.inl fA_1))), (o 0, .inr (2, mFs o th p0 q0 r0 mu (zP ln (at_ + 1 + k) (nI 1) (nI at_) (vs + 1) wn op_ false bb false uf wr_)))] := hD
                subst hQe
                exact W.vret hx hb hr (fun tz ht hW => ⟨⟨fA_1, rfl, ⟨fun h => absurd (hNE.symm.trans h) (by decide), hSe⟩, B1_at ht (by rw [hNE, hdE]; exact hP.sub [2, 1, 0] rfl) (by rw [hNE, hdE]; exact hD.sub [2, 1, 0] (by decide) rfl) trivial⟩, hS.F ht⟩) hS.2.2 dX7_readsName_281
              · have c_212 : ¬ (dgV (tx fT) (at_ + 1) k) < 8 := fun h => c_212 ((nI_ltI (a := (dgV (tx fT) (at_ + 1) k)) (b := 8) (by omega) (by omega)).mpr h)
                refine lv_aload_n hx hb dX7_readsName_215 rfl (lv_at hl 1 rfl) ?_
                refine lv_iconst (v := nI 2) hx hb dX7_readsName_216 (by decide) ?_
                refine lv_iload_n hx hb dX7_readsName_217 rfl (lv_at hl 2 rfl) ?_
                have hF9 := va_free (wc := [(o 0, .inr (2, mFs o th p0 q0 r0 mu (zP ln (at_ + 1 + k) (nI 1) (nI at_) vs wn op_ bw bb bp uf wr_)))]) hD hS (fun q h => hA q h) [2] rfl
                refine c_v (wr := [(o 7, .inl (dA 2, 200, .inl fT)), (o 5, .inl (dA 1, 2640, .inr (.inl fA_1)))]) (va_runV (As := [.int (nI 2), .int (nI at_)]) (rest := []) ⟨hx, hb, hml, hown, hts⟩ (x7_fails Z (va_A [(o 0, .inr (2, mFs o th p0 q0 r0 mu (zP ln (at_ + 1 + k) (nI 1) (nI at_) vs wn op_ bw bb bp uf wr_)))] H.size) H.size (fun q h => Or.inr h) o th p0 q0 r0 mu ln (at_ + 1 + k) (nI 1) (nI at_) vs wn op_ bw bb bp uf wr_ (nI 2) (nI at_)) (cwV 2 hts (lw_V q2458 q2460 qs84 q107 q2461) rfl rfl rfl (by decide +kernel) ⟨Nat.le_of_ble_eq_true rfl, Nat.le_of_ble_eq_true rfl⟩) (gP_V (va_recv hK hP (ci := 2) (q0 := 2) rfl rfl) hG hS (fun q _ h => hF9 q h) ⟨rfl, (hP.sub (ws' := [(o 0, .inr (2, mFs o th p0 q0 r0 mu (zP ln (at_ + 1 + k) (nI 1) (nI at_) vs wn op_ bw bb bp uf wr_)))]) [2] rfl), (hD.sub (ws' := [(o 0, .inr (2, mFs o th p0 q0 r0 mu (zP ln (at_ + 1 + k) (nI 1) (nI at_) vs wn op_ bw bb bp uf wr_)))]) [2] (by decide) rfl).self⟩) rfl rfl hl.1 rfl (lv_room (Nat.le_of_ble_eq_true rfl)) dX7_readsName_218 ⟨by first | decide | omega, by first | decide | omega⟩) hP hD hS hA [2] [0, 1] rfl rfl (by decide) (by decide) (fun u9 H locs hq hX hz hk hP hD hS => ?_)
                have hP : va_P (dC, dI) vwCl [(o 7, .inl (dA 2, 200, .inl fT)), (o 5, .inl (dA 1, 2640, .inr (.inl fA_1))), (o 0, .inr (2, mFs o th p0 q0 r0 mu (zP ln (at_ + 1 + k) (nI 1) (nI at_) vs wn op_ bw bb bp uf wr_)))] H := hP
                have hD : va_D A [(o 7, .inl (dA 2, 200, .inl fT)), (o 5, .inl (dA 1, 2640, .inr (.inl fA_1))), (o 0, .inr (2, mFs o th p0 q0 r0 mu (zP ln (at_ + 1 + k) (nI 1) (nI at_) vs wn op_ bw bb bp uf wr_)))] := hD
                refine lv_iload_n hx hb dX7_readsName_221 rfl (lv_at hl 3 rfl) ?_
                refine lv_if_eq (tgt := 246) hx hb dX7_readsName_222 (by decide) (fun c_222 => ?_) (fun c_222 => ?_)
                rotate_left
                · exact absurd (by decide) c_222
                refine lv_aload_n hx hb dX7_readsName_246 rfl (lv_at hl 1 rfl) ?_
                refine va_get (D := (dC, dI)) (ci := 2) (v := .int (nI 1)) (C := RX7) (T := TX7) (N := 27) hx hb hts in_X7 hown hK hP 2 rfl rfl 14 (by decide) (hts _ q2020) (fun _ h9 => h9) rfl dX7_readsName_247 ?_
                refine lv_if_ne (tgt := 261) hx hb dX7_readsName_250 (by decide) (fun c_250 => ?_) (fun c_250 => ?_)
                rotate_left
                · exact absurd c_250 (by decide)
                refine lv_aload_n hx hb dX7_readsName_261 rfl (lv_at hl 1 rfl) ?_
                refine lv_dup hx hb dX7_readsName_262 rfl ?_
                refine va_get (D := (dC, dI)) (ci := 2) (v := .int (nI vs)) (C := RX7) (T := TX7) (N := 27) hx hb hts in_X7 hown hK hP 2 rfl rfl 16 (by decide) (hts _ q2022) (fun _ h9 => h9) rfl dX7_readsName_263 ?_
                refine lv_iconst (v := nI 1) hx hb dX7_readsName_266 (by decide) ?_
                refine lv_iadd hx hb dX7_readsName_267 ?_
                refine e_i (y := nI (vs + 1)) (nI_add _ _) ?_
                refine va_put (D := (dC, dI)) (ci := 2) (v := .int (nI (vs + 1))) (ty := .int) (C := RX7) (T := TX7) (N := 27) hx hb hts in_X7 tyX7 tyX7_ok nmX7 hown hK hP hD hS 2 rfl rfl 16 (by decide) (hts _ q2022) (fun _ h9 => h9) rfl (by decide +kernel) rfl rfl (Nat.le_of_ble_eq_true rfl) dX7_readsName_268 (fun H locs hP hD hS => ?_)
                have hP : va_P (dC, dI) vwCl [(o 7, .inl (dA 2, 200, .inl fT)), (o 5, .inl (dA 1, 2640, .inr (.inl fA_1))), (o 0, .inr (2, mFs o th p0 q0 r0 mu (zP ln (at_ + 1 + k) (nI 1) (nI at_) (vs + 1) wn op_ bw bb bp uf wr_)))] H := hP
                have hD : va_D A [(o 7, .inl (dA 2, 200, .inl fT)), (o 5, .inl (dA 1, 2640, .inr (.inl fA_1))), (o 0, .inr (2, mFs o th p0 q0 r0 mu (zP ln (at_ + 1 + k) (nI 1) (nI at_) (vs + 1) wn op_ bw bb bp uf wr_)))] := hD
                refine lv_aload_n hx hb dX7_readsName_271 rfl (lv_at hl 1 rfl) ?_
                refine lv_iconst (v := nI 0) hx hb dX7_readsName_272 (by decide) ?_
                refine va_put (D := (dC, dI)) (ci := 2) (v := .int (nI 0)) (ty := .boolean) (C := RX7) (T := TX7) (N := 27) hx hb hts in_X7 tyX7 tyX7_ok nmX7 hown hK hP hD hS 2 rfl rfl 21 (by decide) (hts _ q2027) (fun _ h9 => h9) rfl (by decide +kernel) rfl rfl (Nat.le_of_ble_eq_true rfl) dX7_readsName_273 (fun H locs hP hD hS => ?_)
                have hP : va_P (dC, dI) vwCl [(o 7, .inl (dA 2, 200, .inl fT)), (o 5, .inl (dA 1, 2640, .inr (.inl fA_1))), (o 0, .inr (2, mFs o th p0 q0 r0 mu (zP ln (at_ + 1 + k) (nI 1) (nI at_) (vs + 1) wn op_ false bb bp uf wr_)))] H := hP
                have hD : va_D A [(o 7, .inl (dA 2, 200, .inl fT)), (o 5, .inl (dA 1, 2640, .inr (.inl fA_1))), (o 0, .inr (2, mFs o th p0 q0 r0 mu (zP ln (at_ + 1 + k) (nI 1) (nI at_) (vs + 1) wn op_ false bb bp uf wr_)))] := hD
                refine lv_aload_n hx hb dX7_readsName_276 rfl (lv_at hl 1 rfl) ?_
                refine lv_iconst (v := nI 0) hx hb dX7_readsName_277 (by decide) ?_
                refine va_put (D := (dC, dI)) (ci := 2) (v := .int (nI 0)) (ty := .boolean) (C := RX7) (T := TX7) (N := 27) hx hb hts in_X7 tyX7 tyX7_ok nmX7 hown hK hP hD hS 2 rfl rfl 23 (by decide) (hts _ q2029) (fun _ h9 => h9) rfl (by decide +kernel) rfl rfl (Nat.le_of_ble_eq_true rfl) dX7_readsName_278 (fun H locs hP hD hS => ?_)
                have hP : va_P (dC, dI) vwCl [(o 7, .inl (dA 2, 200, .inl fT)), (o 5, .inl (dA 1, 2640, .inr (.inl fA_1))), (o 0, .inr (2, mFs o th p0 q0 r0 mu (zP ln (at_ + 1 + k) (nI 1) (nI at_) (vs + 1) wn op_ false bb false uf wr_)))] H := hP
                have hD : va_D A [(o 7, .inl (dA 2, 200, .inl fT)), (o 5, .inl (dA 1, 2640, .inr (.inl fA_1))), (o 0, .inr (2, mFs o th p0 q0 r0 mu (zP ln (at_ + 1 + k) (nI 1) (nI at_) (vs + 1) wn op_ false bb false uf wr_)))] := hD
                subst hQe
                exact W.vret hx hb hr (fun tz ht hW => ⟨⟨fA_1, rfl, ⟨fun h => absurd (hNE.symm.trans h) (by decide), hSe⟩, B1_at ht (by rw [hNE, hdE]; exact hP.sub [2, 1, 0] rfl) (by rw [hNE, hdE]; exact hD.sub [2, 1, 0] (by decide) rfl) trivial⟩, hS.F ht⟩) hS.2.2 dX7_readsName_281
        · have hD8 := bI_1 c_66
          have hi8 := D_in rfl hD8
          have hdk := isD_lt hD8
          have hcx : ch (tx fT) ln (at_ + 1 + k) = tx fT (at_ + 1 + k) := ch_lt hi8
          refine lv_aload_n hx hb dX7_readsName_69 rfl (lv_at hl 0 rfl) ?_
          refine s_i (va_runV (As := []) (rest := []) ⟨hx, hb, hml, hown, hts⟩ (x7_see Z o th p0 q0 r0 mu ln (at_ + 1 + k) (nI 0) ea vs wn op_ bw bb bp uf wr_ fT (by omega) (by omega)) (cwV 0 hts (lw_V q2438 q2440 qs79 q107 q2441) rfl rfl rfl (by decide +kernel) ⟨Nat.le_of_ble_eq_true rfl, Nat.le_of_ble_eq_true rfl⟩) (gP_V (va_recv hK hP (ci := 2) (q0 := 1) rfl rfl) hG hS (fun q _ h => h.elim) (hP.sub (ws' := [(o 0, .inr (2, mFs o th p0 q0 r0 mu (zP ln (at_ + 1 + k) (nI 0) ea vs wn op_ bw bb bp uf wr_))), (o 7, .inl (dA 2, 200, .inl fT))]) [1, 0] rfl)) rfl rfl hl.1 rfl (lv_room (Nat.le_of_ble_eq_true rfl)) dX7_readsName_70 ⟨by first | decide | omega, by first | decide | omega⟩) ?_
          refine e_i (y := nI (tx fT (at_ + 1 + k))) ((by rw [hcx]; exact chI_n (tx_lt _ _))) ?_
          refine lv_bipush (v := nI 48) hx hb dX7_readsName_73 (by decide) ?_
          refine lv_isub hx hb dX7_readsName_75 ?_
          refine e_i (y := nI ((tx fT (at_ + 1 + k)) - 48)) (pk_sub (by omega)) ?_
          refine lv_istore (lv' := [(7, .int (nI ((tx fT (at_ + 1 + k)) - 48))), (0, .ref (o 0)), (1, .int (nI at_)), (2, .int (nI 0)), (3, .int (nI (at_ + 1))), (4, .int (nI (32 + vs))), (5, .int (nI 0)), (6, .int (nI 1)), (8, .int (nI 1))]) hx hb dX7_readsName_76 hl (by decide) rfl (fun ls hl => ?_)
          refine lv_iload_n hx hb dX7_readsName_78 rfl (lv_at hl 3 rfl) ?_
          refine lv_if_eq (tgt := 123) hx hb dX7_readsName_79 (by decide) (fun c_79 => ?_) (fun c_79 => ?_)
          rotate_left
          · exact absurd (by decide) c_79
          refine lv_iload hx hb dX7_readsName_123 (lv_at hl 8 rfl) ?_
          refine lv_if_eq (tgt := 149) hx hb dX7_readsName_125 (by decide) (fun c_125 => ?_) (fun c_125 => ?_)
          · exact absurd c_125 (by decide)
          refine lv_iload_n hx hb dX7_readsName_128 rfl (lv_at hl 3 rfl) ?_
          refine lv_if_eq (tgt := 145) hx hb dX7_readsName_129 (by decide) (fun c_129 => ?_) (fun c_129 => ?_)
          rotate_left
          · exact absurd (by decide) c_129
          refine lv_iconst (v := nI 1) hx hb dX7_readsName_145 (by decide) ?_
          refine lv_goto (tgt := 150) hx hb dX7_readsName_146 (by decide) ?_
          refine lv_istore (lv' := [(8, .int (nI 1)), (7, .int (nI ((tx fT (at_ + 1 + k)) - 48))), (0, .ref (o 0)), (1, .int (nI at_)), (2, .int (nI 0)), (3, .int (nI (at_ + 1))), (4, .int (nI (32 + vs))), (5, .int (nI 0)), (6, .int (nI 1))]) hx hb dX7_readsName_150 hl (by decide) rfl (fun ls hl => ?_)
          refine lv_aload_n hx hb dX7_readsName_152 rfl (lv_at hl 2 rfl) ?_
          refine lv_dup hx hb dX7_readsName_153 rfl ?_
          refine va_get (D := (dC, dI)) (ci := 2) (v := .int (nI (at_ + 1 + k))) (C := RX7) (T := TX7) (N := 27) hx hb hts in_X7 hown hK hP 1 rfl rfl 13 (by decide) (hts _ q2019) (fun _ h9 => h9) rfl dX7_readsName_154 ?_
          refine lv_iconst (v := nI 1) hx hb dX7_readsName_157 (by decide) ?_
          refine lv_iadd hx hb dX7_readsName_158 ?_
          refine e_i (y := nI (at_ + 1 + k + 1)) (nI_add _ _) ?_
          refine va_put (D := (dC, dI)) (ci := 2) (v := .int (nI (at_ + 1 + k + 1))) (ty := .int) (C := RX7) (T := TX7) (N := 27) hx hb hts in_X7 tyX7 tyX7_ok nmX7 hown hK hP hD hS 1 rfl rfl 13 (by decide) (hts _ q2019) (fun _ h9 => h9) rfl (by decide +kernel) rfl rfl (Nat.le_of_ble_eq_true rfl) dX7_readsName_159 (fun H locs hP hD hS => ?_)
          have hP : va_P (dC, dI) vwCl [(o 7, .inl (dA 2, 200, .inl fT)), (o 0, .inr (2, mFs o th p0 q0 r0 mu (zP ln (at_ + 1 + k + 1) (nI 0) ea vs wn op_ bw bb bp uf wr_))), (o 5, .inl (dA 1, 2640, .inr (.inl fA_1)))] H := hP
          have hD : va_D A [(o 7, .inl (dA 2, 200, .inl fT)), (o 0, .inr (2, mFs o th p0 q0 r0 mu (zP ln (at_ + 1 + k + 1) (nI 0) ea vs wn op_ bw bb bp uf wr_))), (o 5, .inl (dA 1, 2640, .inr (.inl fA_1)))] := hD
          refine lv_goto (tgt := 62) hx hb dX7_readsName_162 (by decide) ?_
          exact ih_4 (k + 1) H locs ls ((by omega)) (by omega) (by rw [← hs9]; exact (runE_t (i := at_ + 1 + k) hi8 hD8).symm) (hP.sub [0, 1, 2] rfl) (hD.sub [0, 1, 2] (by decide) rfl) hS (lv_sub hl [2, 3, 4, 5, 6, 7, 8, 1, 0] rfl)
    exact loop_4 _ 0 H locs ls (Nat.lt_succ_self _) (by omega) rfl hP hD hS (lv_sub hl [8, 7, 6, 5, 4, 3, 2, 1, 0] rfl)
  · have c_11 : (tx fT at_) = 101 := (nI_eq (a := (tx fT at_)) (b := 101) (by omega) (by omega)).mp c_11
    refine lv_iconst (v := nI 1) hx hb dX7_readsName_14 (by decide) ?_
    refine lv_goto (tgt := 19) hx hb dX7_readsName_15 (by decide) ?_
    refine lv_istore_n (lv' := [(2, .int (nI 1)), (1, .int (nI at_)), (0, .ref (o 0))]) hx hb dX7_readsName_19 rfl hl (by decide) rfl (fun ls hl => ?_)
    refine lv_aload_n hx hb dX7_readsName_20 rfl (lv_at hl 2 rfl) ?_
    refine lv_dup hx hb dX7_readsName_21 rfl ?_
    refine va_get (D := (dC, dI)) (ci := 2) (v := .int (nI at_)) (C := RX7) (T := TX7) (N := 27) hx hb hts in_X7 hown hK hP 0 rfl rfl 13 (by decide) (hts _ q2019) (fun _ h9 => h9) rfl dX7_readsName_22 ?_
    refine lv_iconst (v := nI 1) hx hb dX7_readsName_25 (by decide) ?_
    refine lv_iadd hx hb dX7_readsName_26 ?_
    refine e_i (y := nI (at_ + 1)) (nI_add _ _) ?_
    refine va_put (D := (dC, dI)) (ci := 2) (v := .int (nI (at_ + 1))) (ty := .int) (C := RX7) (T := TX7) (N := 27) hx hb hts in_X7 tyX7 tyX7_ok nmX7 hown hK hP hD hS 0 rfl rfl 13 (by decide) (hts _ q2019) (fun _ h9 => h9) rfl (by decide +kernel) rfl rfl (Nat.le_of_ble_eq_true rfl) dX7_readsName_27 (fun H locs hP hD hS => ?_)
    have hP : va_P (dC, dI) vwCl [(o 0, .inr (2, mFs o th p0 q0 r0 mu (zP ln (at_ + 1) (nI 0) ea vs wn op_ bw bb bp uf wr_))), (o 5, .inl (dA 1, 2640, .inr (.inl fA))), (o 7, .inl (dA 2, 200, .inl fT))] H := hP
    have hD : va_D A [(o 0, .inr (2, mFs o th p0 q0 r0 mu (zP ln (at_ + 1) (nI 0) ea vs wn op_ bw bb bp uf wr_))), (o 5, .inl (dA 1, 2640, .inr (.inl fA))), (o 7, .inl (dA 2, 200, .inl fT))] := hD
    refine lv_aload_n hx hb dX7_readsName_30 rfl (lv_at hl 2 rfl) ?_
    refine va_get (D := (dC, dI)) (ci := 2) (v := .int (nI (at_ + 1))) (C := RX7) (T := TX7) (N := 27) hx hb hts in_X7 hown hK hP 0 rfl rfl 13 (by decide) (hts _ q2019) (fun _ h9 => h9) rfl dX7_readsName_31 ?_
    refine lv_istore_n (lv' := [(3, .int (nI (at_ + 1))), (2, .int (nI 1)), (1, .int (nI at_)), (0, .ref (o 0))]) hx hb dX7_readsName_34 rfl hl (by decide) rfl (fun ls hl => ?_)
    refine lv_bipush (v := nI 32) hx hb dX7_readsName_35 (by decide) ?_
    refine lv_aload_n hx hb dX7_readsName_37 rfl (lv_at hl 3 rfl) ?_
    refine va_get (D := (dC, dI)) (ci := 2) (v := .int (nI vs)) (C := RX7) (T := TX7) (N := 27) hx hb hts in_X7 hown hK hP 0 rfl rfl 16 (by decide) (hts _ q2022) (fun _ h9 => h9) rfl dX7_readsName_38 ?_
    refine lv_iadd hx hb dX7_readsName_41 ?_
    refine e_i (y := nI (32 + vs)) (nI_add _ _) ?_
    refine lv_istore (lv' := [(4, .int (nI (32 + vs))), (3, .int (nI (at_ + 1))), (2, .int (nI 1)), (1, .int (nI at_)), (0, .ref (o 0))]) hx hb dX7_readsName_42 hl (by decide) rfl (fun ls hl => ?_)
    refine lv_aload_n hx hb dX7_readsName_44 rfl (lv_at hl 4 rfl) ?_
    refine lv_iload hx hb dX7_readsName_45 (lv_at hl 0 rfl) ?_
    have hF9 := va_free (wc := [(o 0, .inr (2, mFs o th p0 q0 r0 mu (zP ln (at_ + 1) (nI 0) ea vs wn op_ bw bb bp uf wr_))), (o 5, .inl (dA 1, 2640, .inr (.inl fA)))]) hD hS (fun q h => hA q h) [0, 1] rfl
    refine c_v (wr := [(o 7, .inl (dA 2, 200, .inl fT))]) (va_runV (As := [.int (nI (32 + vs))]) (rest := []) ⟨hx, hb, hml, hown, hts⟩ (x7_empties Z (va_A [(o 0, .inr (2, mFs o th p0 q0 r0 mu (zP ln (at_ + 1) (nI 0) ea vs wn op_ bw bb bp uf wr_))), (o 5, .inl (dA 1, 2640, .inr (.inl fA)))] H.size) H.size (fun q h => Or.inr h) o th p0 q0 r0 mu (zP ln (at_ + 1) (nI 0) ea vs wn op_ bw bb bp uf wr_) fA (fun _ => 0) (32 + vs) (by omega)) (cwV 1 hts (lw_V q2221 q2223 qs54 q107 q2224) rfl rfl rfl (by decide +kernel) ⟨Nat.le_of_ble_eq_true rfl, Nat.le_of_ble_eq_true rfl⟩) (gP_V (va_recv hK hP (ci := 2) (q0 := 0) rfl rfl) hG hS (fun q _ h => hF9 q h) ⟨rfl, (hP.sub (ws' := [(o 0, .inr (2, mFs o th p0 q0 r0 mu (zP ln (at_ + 1) (nI 0) ea vs wn op_ bw bb bp uf wr_))), (o 5, .inl (dA 1, 2640, .inr (.inl fA)))]) [0, 1] rfl), (hD.sub (ws' := [(o 0, .inr (2, mFs o th p0 q0 r0 mu (zP ln (at_ + 1) (nI 0) ea vs wn op_ bw bb bp uf wr_))), (o 5, .inl (dA 1, 2640, .inr (.inl fA)))]) [0, 1] (by decide) rfl).self⟩) rfl rfl hl.1 rfl (lv_room (Nat.le_of_ble_eq_true rfl)) dX7_readsName_47 ⟨by first | decide | omega, by first | decide | omega⟩) hP hD hS hA [0, 1] [2] rfl rfl (by decide) (by decide) (fun u9 H locs hq hX hz hk hP hD hS => ?_)
    obtain ⟨fA_5, rfl⟩ : ∃ z, z = u9 := ⟨_, rfl⟩
    have hq_6 := hq
    have hP : va_P (dC, dI) vwCl [(o 7, .inl (dA 2, 200, .inl fT)), (o 0, .inr (2, mFs o th p0 q0 r0 mu (zP ln (at_ + 1) (nI 0) ea vs wn op_ bw bb bp uf wr_))), (o 5, .inl (dA 1, 2640, .inr (.inl fA_5)))] H := hP
    have hD : va_D A [(o 7, .inl (dA 2, 200, .inl fT)), (o 0, .inr (2, mFs o th p0 q0 r0 mu (zP ln (at_ + 1) (nI 0) ea vs wn op_ bw bb bp uf wr_))), (o 5, .inl (dA 1, 2640, .inr (.inl fA_5)))] := hD
    obtain ⟨hH_k_7, hS_k_7⟩ := hq_6
    refine lv_iconst (v := nI 0) hx hb dX7_readsName_50 (by decide) ?_
    refine lv_istore (lv' := [(5, .int (nI 0)), (4, .int (nI (32 + vs))), (3, .int (nI (at_ + 1))), (2, .int (nI 1)), (1, .int (nI at_)), (0, .ref (o 0))]) hx hb dX7_readsName_51 hl (by decide) rfl (fun ls hl => ?_)
    refine lv_iconst (v := nI 1) hx hb dX7_readsName_53 (by decide) ?_
    refine lv_istore (lv' := [(6, .int (nI 1)), (5, .int (nI 0)), (4, .int (nI (32 + vs))), (3, .int (nI (at_ + 1))), (2, .int (nI 1)), (1, .int (nI at_)), (0, .ref (o 0))]) hx hb dX7_readsName_54 hl (by decide) rfl (fun ls hl => ?_)
    refine lv_iconst (v := nI 0) hx hb dX7_readsName_56 (by decide) ?_
    refine lv_istore (lv' := [(7, .int (nI 0)), (6, .int (nI 1)), (5, .int (nI 0)), (4, .int (nI (32 + vs))), (3, .int (nI (at_ + 1))), (2, .int (nI 1)), (1, .int (nI at_)), (0, .ref (o 0))]) hx hb dX7_readsName_57 hl (by decide) rfl (fun ls hl => ?_)
    refine lv_iconst (v := nI 1) hx hb dX7_readsName_59 (by decide) ?_
    refine lv_istore (lv' := [(8, .int (nI 1)), (7, .int (nI 0)), (6, .int (nI 1)), (5, .int (nI 0)), (4, .int (nI (32 + vs))), (3, .int (nI (at_ + 1))), (2, .int (nI 1)), (1, .int (nI at_)), (0, .ref (o 0))]) hx hb dX7_readsName_60 hl (by decide) rfl (fun ls hl => ?_)
    have hHe := hH_k_7
    have hSe := hS_k_7
    have hP : va_P (dC, dI) vwCl [(o 7, .inl (dA 2, 200, .inl fT)), (o 0, .inr (2, mFs o th p0 q0 r0 mu (zP ln (at_ + 1 + 0) (nI 0) ea vs wn op_ bw bb bp uf wr_))), (o 5, .inl (dA 1, 2640, .inr (.inl fA_5)))] H := hP
    have hD : va_D A [(o 7, .inl (dA 2, 200, .inl fT)), (o 0, .inr (2, mFs o th p0 q0 r0 mu (zP ln (at_ + 1 + 0) (nI 0) ea vs wn op_ bw bb bp uf wr_))), (o 5, .inl (dA 1, 2640, .inr (.inl fA_5)))] := hD
    have loop_8 : ∀ (n9_8 : Nat) (k : Nat) (H : Heap) (locs : List Loc) (ls : Array Slot), ln - (at_ + 1 + k) < n9_8 → (at_ + 1 + k ≤ ln) → (dE (tx fT) ln (at_ + 1 + k) = (dE (tx fT) ln (at_ + 1))) → va_P (dC, dI) vwCl [(o 7, .inl (dA 2, 200, .inl fT)), (o 0, .inr (2, mFs o th p0 q0 r0 mu (zP ln (at_ + 1 + k) (nI 0) ea vs wn op_ bw bb bp uf wr_))), (o 5, .inl (dA 1, 2640, .inr (.inl fA_5)))] H → va_D A [(o 7, .inl (dA 2, 200, .inl fT)), (o 0, .inr (2, mFs o th p0 q0 r0 mu (zP ln (at_ + 1 + k) (nI 0) ea vs wn op_ bw bb bp uf wr_))), (o 5, .inl (dA 1, 2640, .inr (.inl fA_5)))] → va_S A s.heap H locs → lv_has ls 10 [(0, .ref (o 0)), (1, .int (nI at_)), (2, .int (nI 1)), (3, .int (nI (at_ + 1))), (4, .int (nI (32 + vs))), (5, .int (nI ((nmF (tx fT) p0 q0 r0 (at_ + 1) k).2))), (6, .int ((nmF (tx fT) p0 q0 r0 (at_ + 1) k).1)), (7, .int (nI (dgV (tx fT) (at_ + 1) k))), (8, .int (bI (nmG (tx fT) (p0 + q0 + r0) (at_ + 1) k)))] → W p l e ({ frames := 4, cells := 0, slots := 0, locals := 240 } : Room) s m args below meth c H locs 0 0 Q (F0 m 62 ls []) := by
      intro n9_8
      induction n9_8 with
      | zero => intro k H locs ls hm_8; exact absurd hm_8 (Nat.not_lt_zero _)
      | succ n9_8 ih_8 =>
        intro k H locs ls hm_8 hi9 hs9 hP hD hS hl
        refine lv_aload_n hx hb dX7_readsName_62 rfl (lv_at hl 0 rfl) ?_
        refine s_i (va_runV (As := []) (rest := []) ⟨hx, hb, hml, hown, hts⟩ (x7_isDigit Z o th p0 q0 r0 mu ln (at_ + 1 + k) (nI 0) ea vs wn op_ bw bb bp uf wr_ fT (by omega) (by omega)) (cwV 0 hts (lw_V q2446 q2448 qs81 q107 q2449) rfl rfl rfl (by decide +kernel) ⟨Nat.le_of_ble_eq_true rfl, Nat.le_of_ble_eq_true rfl⟩) (gP_V (va_recv hK hP (ci := 2) (q0 := 1) rfl rfl) hG hS (fun q _ h => h.elim) (hP.sub (ws' := [(o 0, .inr (2, mFs o th p0 q0 r0 mu (zP ln (at_ + 1 + k) (nI 0) ea vs wn op_ bw bb bp uf wr_))), (o 7, .inl (dA 2, 200, .inl fT))]) [1, 0] rfl)) rfl rfl hl.1 rfl (lv_room (Nat.le_of_ble_eq_true rfl)) dX7_readsName_63 ⟨by first | decide | omega, by first | decide | omega⟩) ?_
        refine lv_if_eq (tgt := 165) hx hb dX7_readsName_66 (by decide) (fun c_66 => ?_) (fun c_66 => ?_)
        · have hdg8 := dgV_lt fT (at_ + 1) k
          have hdE : (dE (tx fT) ln (at_ + 1)) = at_ + 1 + k := by rw [← hs9]; exact runE_f (bI_0 c_66)
          have hk8 : (dE (tx fT) ln (at_ + 1)) - (at_ + 1) = k := by rw [hdE]; omega
          have hnf := nmF_ok (T := tx fT) (p := p0) (q := q0) (r := r0) (b := at_ + 1) k
          refine lv_aload_n hx hb dX7_readsName_165 rfl (lv_at hl 0 rfl) ?_
          refine va_get (D := (dC, dI)) (ci := 2) (v := .int (nI (at_ + 1 + k))) (C := RX7) (T := TX7) (N := 27) hx hb hts in_X7 hown hK hP 1 rfl rfl 13 (by decide) (hts _ q2019) (fun _ h9 => h9) rfl dX7_readsName_166 ?_
          refine lv_iload_n hx hb dX7_readsName_169 rfl (lv_at hl 3 rfl) ?_
          refine lv_isub hx hb dX7_readsName_170 ?_
          refine e_i (y := nI k) ((pk_sub (by omega)).trans (n_eq (by omega))) ?_
          refine lv_istore (lv' := [(9, .int (nI k)), (0, .ref (o 0)), (1, .int (nI at_)), (2, .int (nI 1)), (3, .int (nI (at_ + 1))), (4, .int (nI (32 + vs))), (5, .int (nI ((nmF (tx fT) p0 q0 r0 (at_ + 1) k).2))), (6, .int ((nmF (tx fT) p0 q0 r0 (at_ + 1) k).1)), (7, .int (nI (dgV (tx fT) (at_ + 1) k))), (8, .int (bI (nmG (tx fT) (p0 + q0 + r0) (at_ + 1) k)))]) hx hb dX7_readsName_171 hl (by decide) rfl (fun ls hl => ?_)
          refine lv_iload hx hb dX7_readsName_173 (lv_at hl 0 rfl) ?_
          refine lv_if_ne (tgt := 184) hx hb dX7_readsName_175 (by decide) (fun c_175 => ?_) (fun c_175 => ?_)
          · have c_175 : ¬ k = 0 := fun h => c_175 ((nI_eq (a := k) (b := 0) (by omega) (by omega)).mpr h)
            have hk0 : ¬ k = 0 := c_175
            refine lv_iload hx hb dX7_readsName_184 (lv_at hl 9 rfl) ?_
            refine lv_if_eq (tgt := 215) hx hb dX7_readsName_186 (by decide) (fun c_186 => ?_) (fun c_186 => ?_)
            · have hg8 := bI_0 c_186
              have hNE : namE (tx fT) ln (p0 + q0 + r0) at_ = 2 := by unfold namE; rw [hk8, if_neg hk0, if_pos c_11, if_neg (by rw [hg8]; simp)]
              refine lv_aload_n hx hb dX7_readsName_215 rfl (lv_at hl 1 rfl) ?_
              refine lv_iconst (v := nI 2) hx hb dX7_readsName_216 (by decide) ?_
              refine lv_iload_n hx hb dX7_readsName_217 rfl (lv_at hl 2 rfl) ?_
              have hF9 := va_free (wc := [(o 0, .inr (2, mFs o th p0 q0 r0 mu (zP ln (at_ + 1 + k) (nI 0) ea vs wn op_ bw bb bp uf wr_)))]) hD hS (fun q h => hA q h) [1] rfl
              refine c_v (wr := [(o 7, .inl (dA 2, 200, .inl fT)), (o 5, .inl (dA 1, 2640, .inr (.inl fA_5)))]) (va_runV (As := [.int (nI 2), .int (nI at_)]) (rest := []) ⟨hx, hb, hml, hown, hts⟩ (x7_fails Z (va_A [(o 0, .inr (2, mFs o th p0 q0 r0 mu (zP ln (at_ + 1 + k) (nI 0) ea vs wn op_ bw bb bp uf wr_)))] H.size) H.size (fun q h => Or.inr h) o th p0 q0 r0 mu ln (at_ + 1 + k) (nI 0) ea vs wn op_ bw bb bp uf wr_ (nI 2) (nI at_)) (cwV 2 hts (lw_V q2458 q2460 qs84 q107 q2461) rfl rfl rfl (by decide +kernel) ⟨Nat.le_of_ble_eq_true rfl, Nat.le_of_ble_eq_true rfl⟩) (gP_V (va_recv hK hP (ci := 2) (q0 := 1) rfl rfl) hG hS (fun q _ h => hF9 q h) ⟨rfl, (hP.sub (ws' := [(o 0, .inr (2, mFs o th p0 q0 r0 mu (zP ln (at_ + 1 + k) (nI 0) ea vs wn op_ bw bb bp uf wr_)))]) [1] rfl), (hD.sub (ws' := [(o 0, .inr (2, mFs o th p0 q0 r0 mu (zP ln (at_ + 1 + k) (nI 0) ea vs wn op_ bw bb bp uf wr_)))]) [1] (by decide) rfl).self⟩) rfl rfl hl.1 rfl (lv_room (Nat.le_of_ble_eq_true rfl)) dX7_readsName_218 ⟨by first | decide | omega, by first | decide | omega⟩) hP hD hS hA [1] [0, 2] rfl rfl (by decide) (by decide) (fun u9 H locs hq hX hz hk hP hD hS => ?_)
              have hP : va_P (dC, dI) vwCl [(o 7, .inl (dA 2, 200, .inl fT)), (o 5, .inl (dA 1, 2640, .inr (.inl fA_5))), (o 0, .inr (2, mFs o th p0 q0 r0 mu (zP ln (at_ + 1 + k) (nI 2) (nI at_) vs wn op_ bw bb bp uf wr_)))] H := hP
              have hD : va_D A [(o 7, .inl (dA 2, 200, .inl fT)), (o 5, .inl (dA 1, 2640, .inr (.inl fA_5))), (o 0, .inr (2, mFs o th p0 q0 r0 mu (zP ln (at_ + 1 + k) (nI 2) (nI at_) vs wn op_ bw bb bp uf wr_)))] := hD
              refine lv_iload_n hx hb dX7_readsName_221 rfl (lv_at hl 3 rfl) ?_
              refine lv_if_eq (tgt := 246) hx hb dX7_readsName_222 (by decide) (fun c_222 => ?_) (fun c_222 => ?_)
              · exact absurd c_222 (by decide)
              refine lv_aload_n hx hb dX7_readsName_225 rfl (lv_at hl 1 rfl) ?_
              refine va_get (D := (dC, dI)) (ci := 2) (v := .ref (o 5)) (C := RX7) (T := TX7) (N := 27) hx hb hts in_X7 hown hK hP 2 rfl rfl 8 (by decide) (hts _ q2014) (fun _ h9 => h9) rfl dX7_readsName_226 ?_
              refine lv_bipush (v := nI 33) hx hb dX7_readsName_229 (by decide) ?_
              refine lv_iload hx hb dX7_readsName_231 (lv_at hl 5 rfl) ?_
              refine lv_imul hx hb dX7_readsName_233 ?_
              refine e_i (y := nI (33 * (32 + vs))) (pk_mul _ _) ?_
              refine lv_iconst (v := nI 1) hx hb dX7_readsName_234 (by decide) ?_
              refine lv_iadd hx hb dX7_readsName_235 ?_
              refine e_i (y := nI (33 * (32 + vs) + 1)) (nI_add _ _) ?_
              refine lv_iload hx hb dX7_readsName_236 (lv_at hl 6 rfl) ?_
              refine lv_iadd hx hb dX7_readsName_238 ?_
              refine e_i (y := nI (33 * (32 + vs) + 1 + ((nmF (tx fT) p0 q0 r0 (at_ + 1) k).2))) (nI_add _ _) ?_
              refine lv_iload hx hb dX7_readsName_239 (lv_at hl 7 rfl) ?_
              refine lv_i2l (v := ((nmF (tx fT) p0 q0 r0 (at_ + 1) k).1).toInt64) hx hb dX7_readsName_241 rfl ?_
              refine a_last hx hb hK hP hD hS 1 1 rfl rfl (by have := hnf.2; omega) (by omega) dX7_readsName_242 (fun H locs hP hD hS => ?_)
              have hP : va_P (dC, dI) vwCl [(o 7, .inl (dA 2, 200, .inl fT)), (o 5, .inl (dA 1, 2640, .inr (.inl (vp_updL fA_5 (33 * (32 + vs) + 1 + ((nmF (tx fT) p0 q0 r0 (at_ + 1) k).2)) (((nmF (tx fT) p0 q0 r0 (at_ + 1) k).1).toInt64))))), (o 0, .inr (2, mFs o th p0 q0 r0 mu (zP ln (at_ + 1 + k) (nI 2) (nI at_) vs wn op_ bw bb bp uf wr_)))] H := hP
              have hD : va_D A [(o 7, .inl (dA 2, 200, .inl fT)), (o 5, .inl (dA 1, 2640, .inr (.inl (vp_updL fA_5 (33 * (32 + vs) + 1 + ((nmF (tx fT) p0 q0 r0 (at_ + 1) k).2)) (((nmF (tx fT) p0 q0 r0 (at_ + 1) k).1).toInt64))))), (o 0, .inr (2, mFs o th p0 q0 r0 mu (zP ln (at_ + 1 + k) (nI 2) (nI at_) vs wn op_ bw bb bp uf wr_)))] := hD
              refine lv_goto (tgt := 261) hx hb dX7_readsName_243 (by decide) ?_
              refine lv_aload_n hx hb dX7_readsName_261 rfl (lv_at hl 1 rfl) ?_
              refine lv_dup hx hb dX7_readsName_262 rfl ?_
              refine va_get (D := (dC, dI)) (ci := 2) (v := .int (nI vs)) (C := RX7) (T := TX7) (N := 27) hx hb hts in_X7 hown hK hP 2 rfl rfl 16 (by decide) (hts _ q2022) (fun _ h9 => h9) rfl dX7_readsName_263 ?_
              refine lv_iconst (v := nI 1) hx hb dX7_readsName_266 (by decide) ?_
              refine lv_iadd hx hb dX7_readsName_267 ?_
              refine e_i (y := nI (vs + 1)) (nI_add _ _) ?_
              refine va_put (D := (dC, dI)) (ci := 2) (v := .int (nI (vs + 1))) (ty := .int) (C := RX7) (T := TX7) (N := 27) hx hb hts in_X7 tyX7 tyX7_ok nmX7 hown hK hP hD hS 2 rfl rfl 16 (by decide) (hts _ q2022) (fun _ h9 => h9) rfl (by decide +kernel) rfl rfl (Nat.le_of_ble_eq_true rfl) dX7_readsName_268 (fun H locs hP hD hS => ?_)
              have hP : va_P (dC, dI) vwCl [(o 7, .inl (dA 2, 200, .inl fT)), (o 5, .inl (dA 1, 2640, .inr (.inl (vp_updL fA_5 (33 * (32 + vs) + 1 + ((nmF (tx fT) p0 q0 r0 (at_ + 1) k).2)) (((nmF (tx fT) p0 q0 r0 (at_ + 1) k).1).toInt64))))), (o 0, .inr (2, mFs o th p0 q0 r0 mu (zP ln (at_ + 1 + k) (nI 2) (nI at_) (vs + 1) wn op_ bw bb bp uf wr_)))] H := hP
              have hD : va_D A [(o 7, .inl (dA 2, 200, .inl fT)), (o 5, .inl (dA 1, 2640, .inr (.inl (vp_updL fA_5 (33 * (32 + vs) + 1 + ((nmF (tx fT) p0 q0 r0 (at_ + 1) k).2)) (((nmF (tx fT) p0 q0 r0 (at_ + 1) k).1).toInt64))))), (o 0, .inr (2, mFs o th p0 q0 r0 mu (zP ln (at_ + 1 + k) (nI 2) (nI at_) (vs + 1) wn op_ bw bb bp uf wr_)))] := hD
              refine lv_aload_n hx hb dX7_readsName_271 rfl (lv_at hl 1 rfl) ?_
              refine lv_iconst (v := nI 0) hx hb dX7_readsName_272 (by decide) ?_
              refine va_put (D := (dC, dI)) (ci := 2) (v := .int (nI 0)) (ty := .boolean) (C := RX7) (T := TX7) (N := 27) hx hb hts in_X7 tyX7 tyX7_ok nmX7 hown hK hP hD hS 2 rfl rfl 21 (by decide) (hts _ q2027) (fun _ h9 => h9) rfl (by decide +kernel) rfl rfl (Nat.le_of_ble_eq_true rfl) dX7_readsName_273 (fun H locs hP hD hS => ?_)
              have hP : va_P (dC, dI) vwCl [(o 7, .inl (dA 2, 200, .inl fT)), (o 5, .inl (dA 1, 2640, .inr (.inl (vp_updL fA_5 (33 * (32 + vs) + 1 + ((nmF (tx fT) p0 q0 r0 (at_ + 1) k).2)) (((nmF (tx fT) p0 q0 r0 (at_ + 1) k).1).toInt64))))), (o 0, .inr (2, mFs o th p0 q0 r0 mu (zP ln (at_ + 1 + k) (nI 2) (nI at_) (vs + 1) wn op_ false bb bp uf wr_)))] H := hP
              have hD : va_D A [(o 7, .inl (dA 2, 200, .inl fT)), (o 5, .inl (dA 1, 2640, .inr (.inl (vp_updL fA_5 (33 * (32 + vs) + 1 + ((nmF (tx fT) p0 q0 r0 (at_ + 1) k).2)) (((nmF (tx fT) p0 q0 r0 (at_ + 1) k).1).toInt64))))), (o 0, .inr (2, mFs o th p0 q0 r0 mu (zP ln (at_ + 1 + k) (nI 2) (nI at_) (vs + 1) wn op_ false bb bp uf wr_)))] := hD
              refine lv_aload_n hx hb dX7_readsName_276 rfl (lv_at hl 1 rfl) ?_
              refine lv_iconst (v := nI 0) hx hb dX7_readsName_277 (by decide) ?_
              refine va_put (D := (dC, dI)) (ci := 2) (v := .int (nI 0)) (ty := .boolean) (C := RX7) (T := TX7) (N := 27) hx hb hts in_X7 tyX7 tyX7_ok nmX7 hown hK hP hD hS 2 rfl rfl 23 (by decide) (hts _ q2029) (fun _ h9 => h9) rfl (by decide +kernel) rfl rfl (Nat.le_of_ble_eq_true rfl) dX7_readsName_278 (fun H locs hP hD hS => ?_)
              have hP : va_P (dC, dI) vwCl [(o 7, .inl (dA 2, 200, .inl fT)), (o 5, .inl (dA 1, 2640, .inr (.inl (vp_updL fA_5 (33 * (32 + vs) + 1 + ((nmF (tx fT) p0 q0 r0 (at_ + 1) k).2)) (((nmF (tx fT) p0 q0 r0 (at_ + 1) k).1).toInt64))))), (o 0, .inr (2, mFs o th p0 q0 r0 mu (zP ln (at_ + 1 + k) (nI 2) (nI at_) (vs + 1) wn op_ false bb false uf wr_)))] H := hP
              have hD : va_D A [(o 7, .inl (dA 2, 200, .inl fT)), (o 5, .inl (dA 1, 2640, .inr (.inl (vp_updL fA_5 (33 * (32 + vs) + 1 + ((nmF (tx fT) p0 q0 r0 (at_ + 1) k).2)) (((nmF (tx fT) p0 q0 r0 (at_ + 1) k).1).toInt64))))), (o 0, .inr (2, mFs o th p0 q0 r0 mu (zP ln (at_ + 1 + k) (nI 2) (nI at_) (vs + 1) wn op_ false bb false uf wr_)))] := hD
              subst hQe
              exact W.vret hx hb hr (fun tz ht hW => ⟨⟨vp_updL fA_5 (33 * (32 + vs) + 1 + ((nmF (tx fT) p0 q0 r0 (at_ + 1) k).2)) (((nmF (tx fT) p0 q0 r0 (at_ + 1) k).1).toInt64), rfl, ⟨fun _ => by unfold namM; rw [if_pos c_11, hk8]; exact bld_hold hHe, fun j hj => by rw [pk_uLn (by have := hnf.2; omega)]; exact hSe j hj⟩, B1_at ht (by rw [hNE, hdE]; exact hP.sub [2, 1, 0] rfl) (by rw [hNE, hdE]; exact hD.sub [2, 1, 0] (by decide) rfl) trivial⟩, hS.F ht⟩) hS.2.2 dX7_readsName_281
            · have hg8 := bI_1 c_186
              refine lv_iload hx hb dX7_readsName_189 (lv_at hl 0 rfl) ?_
              refine lv_iload_n hx hb dX7_readsName_191 rfl (lv_at hl 3 rfl) ?_
              refine lv_if_eq (tgt := 200) hx hb dX7_readsName_192 (by decide) (fun c_192 => ?_) (fun c_192 => ?_)
              · exact absurd c_192 (by decide)
              refine lv_bipush (v := nI 10) hx hb dX7_readsName_195 (by decide) ?_
              refine lv_goto (tgt := 201) hx hb dX7_readsName_197 (by decide) ?_
              refine lv_icmp_gt (tgt := 215) hx hb dX7_readsName_201 (by decide) (fun c_201 => ?_) (fun c_201 => ?_)
              · have c_201 : 10 < k := (nI_ltI (a := 10) (b := k) (by omega) (by omega)).mp c_201
                have hNE : namE (tx fT) ln (p0 + q0 + r0) at_ = 2 := by unfold namE; rw [hk8, if_neg hk0, if_pos c_11, if_neg (by omega)]
                refine lv_aload_n hx hb dX7_readsName_215 rfl (lv_at hl 1 rfl) ?_
                refine lv_iconst (v := nI 2) hx hb dX7_readsName_216 (by decide) ?_
                refine lv_iload_n hx hb dX7_readsName_217 rfl (lv_at hl 2 rfl) ?_
                have hF9 := va_free (wc := [(o 0, .inr (2, mFs o th p0 q0 r0 mu (zP ln (at_ + 1 + k) (nI 0) ea vs wn op_ bw bb bp uf wr_)))]) hD hS (fun q h => hA q h) [1] rfl
                refine c_v (wr := [(o 7, .inl (dA 2, 200, .inl fT)), (o 5, .inl (dA 1, 2640, .inr (.inl fA_5)))]) (va_runV (As := [.int (nI 2), .int (nI at_)]) (rest := []) ⟨hx, hb, hml, hown, hts⟩ (x7_fails Z (va_A [(o 0, .inr (2, mFs o th p0 q0 r0 mu (zP ln (at_ + 1 + k) (nI 0) ea vs wn op_ bw bb bp uf wr_)))] H.size) H.size (fun q h => Or.inr h) o th p0 q0 r0 mu ln (at_ + 1 + k) (nI 0) ea vs wn op_ bw bb bp uf wr_ (nI 2) (nI at_)) (cwV 2 hts (lw_V q2458 q2460 qs84 q107 q2461) rfl rfl rfl (by decide +kernel) ⟨Nat.le_of_ble_eq_true rfl, Nat.le_of_ble_eq_true rfl⟩) (gP_V (va_recv hK hP (ci := 2) (q0 := 1) rfl rfl) hG hS (fun q _ h => hF9 q h) ⟨rfl, (hP.sub (ws' := [(o 0, .inr (2, mFs o th p0 q0 r0 mu (zP ln (at_ + 1 + k) (nI 0) ea vs wn op_ bw bb bp uf wr_)))]) [1] rfl), (hD.sub (ws' := [(o 0, .inr (2, mFs o th p0 q0 r0 mu (zP ln (at_ + 1 + k) (nI 0) ea vs wn op_ bw bb bp uf wr_)))]) [1] (by decide) rfl).self⟩) rfl rfl hl.1 rfl (lv_room (Nat.le_of_ble_eq_true rfl)) dX7_readsName_218 ⟨by first | decide | omega, by first | decide | omega⟩) hP hD hS hA [1] [0, 2] rfl rfl (by decide) (by decide) (fun u9 H locs hq hX hz hk hP hD hS => ?_)
                have hP : va_P (dC, dI) vwCl [(o 7, .inl (dA 2, 200, .inl fT)), (o 5, .inl (dA 1, 2640, .inr (.inl fA_5))), (o 0, .inr (2, mFs o th p0 q0 r0 mu (zP ln (at_ + 1 + k) (nI 2) (nI at_) vs wn op_ bw bb bp uf wr_)))] H := hP
                have hD : va_D A [(o 7, .inl (dA 2, 200, .inl fT)), (o 5, .inl (dA 1, 2640, .inr (.inl fA_5))), (o 0, .inr (2, mFs o th p0 q0 r0 mu (zP ln (at_ + 1 + k) (nI 2) (nI at_) vs wn op_ bw bb bp uf wr_)))] := hD
                refine lv_iload_n hx hb dX7_readsName_221 rfl (lv_at hl 3 rfl) ?_
                refine lv_if_eq (tgt := 246) hx hb dX7_readsName_222 (by decide) (fun c_222 => ?_) (fun c_222 => ?_)
                · exact absurd c_222 (by decide)
                refine lv_aload_n hx hb dX7_readsName_225 rfl (lv_at hl 1 rfl) ?_
                refine va_get (D := (dC, dI)) (ci := 2) (v := .ref (o 5)) (C := RX7) (T := TX7) (N := 27) hx hb hts in_X7 hown hK hP 2 rfl rfl 8 (by decide) (hts _ q2014) (fun _ h9 => h9) rfl dX7_readsName_226 ?_
                refine lv_bipush (v := nI 33) hx hb dX7_readsName_229 (by decide) ?_
                refine lv_iload hx hb dX7_readsName_231 (lv_at hl 5 rfl) ?_
                refine lv_imul hx hb dX7_readsName_233 ?_
                refine e_i (y := nI (33 * (32 + vs))) (pk_mul _ _) ?_
                refine lv_iconst (v := nI 1) hx hb dX7_readsName_234 (by decide) ?_
                refine lv_iadd hx hb dX7_readsName_235 ?_
                refine e_i (y := nI (33 * (32 + vs) + 1)) (nI_add _ _) ?_
                refine lv_iload hx hb dX7_readsName_236 (lv_at hl 6 rfl) ?_
                refine lv_iadd hx hb dX7_readsName_238 ?_
                refine e_i (y := nI (33 * (32 + vs) + 1 + ((nmF (tx fT) p0 q0 r0 (at_ + 1) k).2))) (nI_add _ _) ?_
                refine lv_iload hx hb dX7_readsName_239 (lv_at hl 7 rfl) ?_
                refine lv_i2l (v := ((nmF (tx fT) p0 q0 r0 (at_ + 1) k).1).toInt64) hx hb dX7_readsName_241 rfl ?_
                refine a_last hx hb hK hP hD hS 1 1 rfl rfl (by have := hnf.2; omega) (by omega) dX7_readsName_242 (fun H locs hP hD hS => ?_)
                have hP : va_P (dC, dI) vwCl [(o 7, .inl (dA 2, 200, .inl fT)), (o 5, .inl (dA 1, 2640, .inr (.inl (vp_updL fA_5 (33 * (32 + vs) + 1 + ((nmF (tx fT) p0 q0 r0 (at_ + 1) k).2)) (((nmF (tx fT) p0 q0 r0 (at_ + 1) k).1).toInt64))))), (o 0, .inr (2, mFs o th p0 q0 r0 mu (zP ln (at_ + 1 + k) (nI 2) (nI at_) vs wn op_ bw bb bp uf wr_)))] H := hP
                have hD : va_D A [(o 7, .inl (dA 2, 200, .inl fT)), (o 5, .inl (dA 1, 2640, .inr (.inl (vp_updL fA_5 (33 * (32 + vs) + 1 + ((nmF (tx fT) p0 q0 r0 (at_ + 1) k).2)) (((nmF (tx fT) p0 q0 r0 (at_ + 1) k).1).toInt64))))), (o 0, .inr (2, mFs o th p0 q0 r0 mu (zP ln (at_ + 1 + k) (nI 2) (nI at_) vs wn op_ bw bb bp uf wr_)))] := hD
                refine lv_goto (tgt := 261) hx hb dX7_readsName_243 (by decide) ?_
                refine lv_aload_n hx hb dX7_readsName_261 rfl (lv_at hl 1 rfl) ?_
                refine lv_dup hx hb dX7_readsName_262 rfl ?_
                refine va_get (D := (dC, dI)) (ci := 2) (v := .int (nI vs)) (C := RX7) (T := TX7) (N := 27) hx hb hts in_X7 hown hK hP 2 rfl rfl 16 (by decide) (hts _ q2022) (fun _ h9 => h9) rfl dX7_readsName_263 ?_
                refine lv_iconst (v := nI 1) hx hb dX7_readsName_266 (by decide) ?_
                refine lv_iadd hx hb dX7_readsName_267 ?_
                refine e_i (y := nI (vs + 1)) (nI_add _ _) ?_
                refine va_put (D := (dC, dI)) (ci := 2) (v := .int (nI (vs + 1))) (ty := .int) (C := RX7) (T := TX7) (N := 27) hx hb hts in_X7 tyX7 tyX7_ok nmX7 hown hK hP hD hS 2 rfl rfl 16 (by decide) (hts _ q2022) (fun _ h9 => h9) rfl (by decide +kernel) rfl rfl (Nat.le_of_ble_eq_true rfl) dX7_readsName_268 (fun H locs hP hD hS => ?_)
                have hP : va_P (dC, dI) vwCl [(o 7, .inl (dA 2, 200, .inl fT)), (o 5, .inl (dA 1, 2640, .inr (.inl (vp_updL fA_5 (33 * (32 + vs) + 1 + ((nmF (tx fT) p0 q0 r0 (at_ + 1) k).2)) (((nmF (tx fT) p0 q0 r0 (at_ + 1) k).1).toInt64))))), (o 0, .inr (2, mFs o th p0 q0 r0 mu (zP ln (at_ + 1 + k) (nI 2) (nI at_) (vs + 1) wn op_ bw bb bp uf wr_)))] H := hP
                have hD : va_D A [(o 7, .inl (dA 2, 200, .inl fT)), (o 5, .inl (dA 1, 2640, .inr (.inl (vp_updL fA_5 (33 * (32 + vs) + 1 + ((nmF (tx fT) p0 q0 r0 (at_ + 1) k).2)) (((nmF (tx fT) p0 q0 r0 (at_ + 1) k).1).toInt64))))), (o 0, .inr (2, mFs o th p0 q0 r0 mu (zP ln (at_ + 1 + k) (nI 2) (nI at_) (vs + 1) wn op_ bw bb bp uf wr_)))] := hD
                refine lv_aload_n hx hb dX7_readsName_271 rfl (lv_at hl 1 rfl) ?_
                refine lv_iconst (v := nI 0) hx hb dX7_readsName_272 (by decide) ?_
                refine va_put (D := (dC, dI)) (ci := 2) (v := .int (nI 0)) (ty := .boolean) (C := RX7) (T := TX7) (N := 27) hx hb hts in_X7 tyX7 tyX7_ok nmX7 hown hK hP hD hS 2 rfl rfl 21 (by decide) (hts _ q2027) (fun _ h9 => h9) rfl (by decide +kernel) rfl rfl (Nat.le_of_ble_eq_true rfl) dX7_readsName_273 (fun H locs hP hD hS => ?_)
                have hP : va_P (dC, dI) vwCl [(o 7, .inl (dA 2, 200, .inl fT)), (o 5, .inl (dA 1, 2640, .inr (.inl (vp_updL fA_5 (33 * (32 + vs) + 1 + ((nmF (tx fT) p0 q0 r0 (at_ + 1) k).2)) (((nmF (tx fT) p0 q0 r0 (at_ + 1) k).1).toInt64))))), (o 0, .inr (2, mFs o th p0 q0 r0 mu (zP ln (at_ + 1 + k) (nI 2) (nI at_) (vs + 1) wn op_ false bb bp uf wr_)))] H := hP
                have hD : va_D A [(o 7, .inl (dA 2, 200, .inl fT)), (o 5, .inl (dA 1, 2640, .inr (.inl (vp_updL fA_5 (33 * (32 + vs) + 1 + ((nmF (tx fT) p0 q0 r0 (at_ + 1) k).2)) (((nmF (tx fT) p0 q0 r0 (at_ + 1) k).1).toInt64))))), (o 0, .inr (2, mFs o th p0 q0 r0 mu (zP ln (at_ + 1 + k) (nI 2) (nI at_) (vs + 1) wn op_ false bb bp uf wr_)))] := hD
                refine lv_aload_n hx hb dX7_readsName_276 rfl (lv_at hl 1 rfl) ?_
                refine lv_iconst (v := nI 0) hx hb dX7_readsName_277 (by decide) ?_
                refine va_put (D := (dC, dI)) (ci := 2) (v := .int (nI 0)) (ty := .boolean) (C := RX7) (T := TX7) (N := 27) hx hb hts in_X7 tyX7 tyX7_ok nmX7 hown hK hP hD hS 2 rfl rfl 23 (by decide) (hts _ q2029) (fun _ h9 => h9) rfl (by decide +kernel) rfl rfl (Nat.le_of_ble_eq_true rfl) dX7_readsName_278 (fun H locs hP hD hS => ?_)
                have hP : va_P (dC, dI) vwCl [(o 7, .inl (dA 2, 200, .inl fT)), (o 5, .inl (dA 1, 2640, .inr (.inl (vp_updL fA_5 (33 * (32 + vs) + 1 + ((nmF (tx fT) p0 q0 r0 (at_ + 1) k).2)) (((nmF (tx fT) p0 q0 r0 (at_ + 1) k).1).toInt64))))), (o 0, .inr (2, mFs o th p0 q0 r0 mu (zP ln (at_ + 1 + k) (nI 2) (nI at_) (vs + 1) wn op_ false bb false uf wr_)))] H := hP
                have hD : va_D A [(o 7, .inl (dA 2, 200, .inl fT)), (o 5, .inl (dA 1, 2640, .inr (.inl (vp_updL fA_5 (33 * (32 + vs) + 1 + ((nmF (tx fT) p0 q0 r0 (at_ + 1) k).2)) (((nmF (tx fT) p0 q0 r0 (at_ + 1) k).1).toInt64))))), (o 0, .inr (2, mFs o th p0 q0 r0 mu (zP ln (at_ + 1 + k) (nI 2) (nI at_) (vs + 1) wn op_ false bb false uf wr_)))] := hD
                subst hQe
                exact W.vret hx hb hr (fun tz ht hW => ⟨⟨vp_updL fA_5 (33 * (32 + vs) + 1 + ((nmF (tx fT) p0 q0 r0 (at_ + 1) k).2)) (((nmF (tx fT) p0 q0 r0 (at_ + 1) k).1).toInt64), rfl, ⟨fun _ => by unfold namM; rw [if_pos c_11, hk8]; exact bld_hold hHe, fun j hj => by rw [pk_uLn (by have := hnf.2; omega)]; exact hSe j hj⟩, B1_at ht (by rw [hNE, hdE]; exact hP.sub [2, 1, 0] rfl) (by rw [hNE, hdE]; exact hD.sub [2, 1, 0] (by decide) rfl) trivial⟩, hS.F ht⟩) hS.2.2 dX7_readsName_281
              · have c_201 : ¬ 10 < k := fun h => c_201 ((nI_ltI (a := 10) (b := k) (by omega) (by omega)).mpr h)
                have hNE : namE (tx fT) ln (p0 + q0 + r0) at_ = 0 := by unfold namE; rw [hk8, if_neg hk0, if_pos c_11, if_pos ⟨hg8, by omega⟩]
                refine lv_iload_n hx hb dX7_readsName_204 rfl (lv_at hl 3 rfl) ?_
                refine lv_if_ne (tgt := 221) hx hb dX7_readsName_205 (by decide) (fun c_205 => ?_) (fun c_205 => ?_)
                rotate_left
                · exact absurd c_205 (by decide)
                refine lv_iload_n hx hb dX7_readsName_221 rfl (lv_at hl 3 rfl) ?_
                refine lv_if_eq (tgt := 246) hx hb dX7_readsName_222 (by decide) (fun c_222 => ?_) (fun c_222 => ?_)
                · exact absurd c_222 (by decide)
                refine lv_aload_n hx hb dX7_readsName_225 rfl (lv_at hl 1 rfl) ?_
                refine va_get (D := (dC, dI)) (ci := 2) (v := .ref (o 5)) (C := RX7) (T := TX7) (N := 27) hx hb hts in_X7 hown hK hP 1 rfl rfl 8 (by decide) (hts _ q2014) (fun _ h9 => h9) rfl dX7_readsName_226 ?_
                refine lv_bipush (v := nI 33) hx hb dX7_readsName_229 (by decide) ?_
                refine lv_iload hx hb dX7_readsName_231 (lv_at hl 5 rfl) ?_
                refine lv_imul hx hb dX7_readsName_233 ?_
                refine e_i (y := nI (33 * (32 + vs))) (pk_mul _ _) ?_
                refine lv_iconst (v := nI 1) hx hb dX7_readsName_234 (by decide) ?_
                refine lv_iadd hx hb dX7_readsName_235 ?_
                refine e_i (y := nI (33 * (32 + vs) + 1)) (nI_add _ _) ?_
                refine lv_iload hx hb dX7_readsName_236 (lv_at hl 6 rfl) ?_
                refine lv_iadd hx hb dX7_readsName_238 ?_
                refine e_i (y := nI (33 * (32 + vs) + 1 + ((nmF (tx fT) p0 q0 r0 (at_ + 1) k).2))) (nI_add _ _) ?_
                refine lv_iload hx hb dX7_readsName_239 (lv_at hl 7 rfl) ?_
                refine lv_i2l (v := ((nmF (tx fT) p0 q0 r0 (at_ + 1) k).1).toInt64) hx hb dX7_readsName_241 rfl ?_
                refine a_last hx hb hK hP hD hS 2 1 rfl rfl (by have := hnf.2; omega) (by omega) dX7_readsName_242 (fun H locs hP hD hS => ?_)
                have hP : va_P (dC, dI) vwCl [(o 7, .inl (dA 2, 200, .inl fT)), (o 0, .inr (2, mFs o th p0 q0 r0 mu (zP ln (at_ + 1 + k) (nI 0) ea vs wn op_ bw bb bp uf wr_))), (o 5, .inl (dA 1, 2640, .inr (.inl (vp_updL fA_5 (33 * (32 + vs) + 1 + ((nmF (tx fT) p0 q0 r0 (at_ + 1) k).2)) (((nmF (tx fT) p0 q0 r0 (at_ + 1) k).1).toInt64)))))] H := hP
                have hD : va_D A [(o 7, .inl (dA 2, 200, .inl fT)), (o 0, .inr (2, mFs o th p0 q0 r0 mu (zP ln (at_ + 1 + k) (nI 0) ea vs wn op_ bw bb bp uf wr_))), (o 5, .inl (dA 1, 2640, .inr (.inl (vp_updL fA_5 (33 * (32 + vs) + 1 + ((nmF (tx fT) p0 q0 r0 (at_ + 1) k).2)) (((nmF (tx fT) p0 q0 r0 (at_ + 1) k).1).toInt64)))))] := hD
                refine lv_goto (tgt := 261) hx hb dX7_readsName_243 (by decide) ?_
                refine lv_aload_n hx hb dX7_readsName_261 rfl (lv_at hl 1 rfl) ?_
                refine lv_dup hx hb dX7_readsName_262 rfl ?_
                refine va_get (D := (dC, dI)) (ci := 2) (v := .int (nI vs)) (C := RX7) (T := TX7) (N := 27) hx hb hts in_X7 hown hK hP 1 rfl rfl 16 (by decide) (hts _ q2022) (fun _ h9 => h9) rfl dX7_readsName_263 ?_
                refine lv_iconst (v := nI 1) hx hb dX7_readsName_266 (by decide) ?_
                refine lv_iadd hx hb dX7_readsName_267 ?_
                refine e_i (y := nI (vs + 1)) (nI_add _ _) ?_
                refine va_put (D := (dC, dI)) (ci := 2) (v := .int (nI (vs + 1))) (ty := .int) (C := RX7) (T := TX7) (N := 27) hx hb hts in_X7 tyX7 tyX7_ok nmX7 hown hK hP hD hS 1 rfl rfl 16 (by decide) (hts _ q2022) (fun _ h9 => h9) rfl (by decide +kernel) rfl rfl (Nat.le_of_ble_eq_true rfl) dX7_readsName_268 (fun H locs hP hD hS => ?_)
                have hP : va_P (dC, dI) vwCl [(o 7, .inl (dA 2, 200, .inl fT)), (o 0, .inr (2, mFs o th p0 q0 r0 mu (zP ln (at_ + 1 + k) (nI 0) ea (vs + 1) wn op_ bw bb bp uf wr_))), (o 5, .inl (dA 1, 2640, .inr (.inl (vp_updL fA_5 (33 * (32 + vs) + 1 + ((nmF (tx fT) p0 q0 r0 (at_ + 1) k).2)) (((nmF (tx fT) p0 q0 r0 (at_ + 1) k).1).toInt64)))))] H := hP
                have hD : va_D A [(o 7, .inl (dA 2, 200, .inl fT)), (o 0, .inr (2, mFs o th p0 q0 r0 mu (zP ln (at_ + 1 + k) (nI 0) ea (vs + 1) wn op_ bw bb bp uf wr_))), (o 5, .inl (dA 1, 2640, .inr (.inl (vp_updL fA_5 (33 * (32 + vs) + 1 + ((nmF (tx fT) p0 q0 r0 (at_ + 1) k).2)) (((nmF (tx fT) p0 q0 r0 (at_ + 1) k).1).toInt64)))))] := hD
                refine lv_aload_n hx hb dX7_readsName_271 rfl (lv_at hl 1 rfl) ?_
                refine lv_iconst (v := nI 0) hx hb dX7_readsName_272 (by decide) ?_
                refine va_put (D := (dC, dI)) (ci := 2) (v := .int (nI 0)) (ty := .boolean) (C := RX7) (T := TX7) (N := 27) hx hb hts in_X7 tyX7 tyX7_ok nmX7 hown hK hP hD hS 1 rfl rfl 21 (by decide) (hts _ q2027) (fun _ h9 => h9) rfl (by decide +kernel) rfl rfl (Nat.le_of_ble_eq_true rfl) dX7_readsName_273 (fun H locs hP hD hS => ?_)
                have hP : va_P (dC, dI) vwCl [(o 7, .inl (dA 2, 200, .inl fT)), (o 0, .inr (2, mFs o th p0 q0 r0 mu (zP ln (at_ + 1 + k) (nI 0) ea (vs + 1) wn op_ false bb bp uf wr_))), (o 5, .inl (dA 1, 2640, .inr (.inl (vp_updL fA_5 (33 * (32 + vs) + 1 + ((nmF (tx fT) p0 q0 r0 (at_ + 1) k).2)) (((nmF (tx fT) p0 q0 r0 (at_ + 1) k).1).toInt64)))))] H := hP
                have hD : va_D A [(o 7, .inl (dA 2, 200, .inl fT)), (o 0, .inr (2, mFs o th p0 q0 r0 mu (zP ln (at_ + 1 + k) (nI 0) ea (vs + 1) wn op_ false bb bp uf wr_))), (o 5, .inl (dA 1, 2640, .inr (.inl (vp_updL fA_5 (33 * (32 + vs) + 1 + ((nmF (tx fT) p0 q0 r0 (at_ + 1) k).2)) (((nmF (tx fT) p0 q0 r0 (at_ + 1) k).1).toInt64)))))] := hD
                refine lv_aload_n hx hb dX7_readsName_276 rfl (lv_at hl 1 rfl) ?_
                refine lv_iconst (v := nI 0) hx hb dX7_readsName_277 (by decide) ?_
                refine va_put (D := (dC, dI)) (ci := 2) (v := .int (nI 0)) (ty := .boolean) (C := RX7) (T := TX7) (N := 27) hx hb hts in_X7 tyX7 tyX7_ok nmX7 hown hK hP hD hS 1 rfl rfl 23 (by decide) (hts _ q2029) (fun _ h9 => h9) rfl (by decide +kernel) rfl rfl (Nat.le_of_ble_eq_true rfl) dX7_readsName_278 (fun H locs hP hD hS => ?_)
                have hP : va_P (dC, dI) vwCl [(o 7, .inl (dA 2, 200, .inl fT)), (o 0, .inr (2, mFs o th p0 q0 r0 mu (zP ln (at_ + 1 + k) (nI 0) ea (vs + 1) wn op_ false bb false uf wr_))), (o 5, .inl (dA 1, 2640, .inr (.inl (vp_updL fA_5 (33 * (32 + vs) + 1 + ((nmF (tx fT) p0 q0 r0 (at_ + 1) k).2)) (((nmF (tx fT) p0 q0 r0 (at_ + 1) k).1).toInt64)))))] H := hP
                have hD : va_D A [(o 7, .inl (dA 2, 200, .inl fT)), (o 0, .inr (2, mFs o th p0 q0 r0 mu (zP ln (at_ + 1 + k) (nI 0) ea (vs + 1) wn op_ false bb false uf wr_))), (o 5, .inl (dA 1, 2640, .inr (.inl (vp_updL fA_5 (33 * (32 + vs) + 1 + ((nmF (tx fT) p0 q0 r0 (at_ + 1) k).2)) (((nmF (tx fT) p0 q0 r0 (at_ + 1) k).1).toInt64)))))] := hD
                subst hQe
                exact W.vret hx hb hr (fun tz ht hW => ⟨⟨vp_updL fA_5 (33 * (32 + vs) + 1 + ((nmF (tx fT) p0 q0 r0 (at_ + 1) k).2)) (((nmF (tx fT) p0 q0 r0 (at_ + 1) k).1).toInt64), rfl, ⟨fun _ => by unfold namM; rw [if_pos c_11, hk8]; exact bld_hold hHe, fun j hj => by rw [pk_uLn (by have := hnf.2; omega)]; exact hSe j hj⟩, B1_at ht (by rw [hNE, hdE]; exact hP.sub [1, 2, 0] rfl) (by rw [hNE, hdE]; exact hD.sub [1, 2, 0] (by decide) rfl) trivial⟩, hS.F ht⟩) hS.2.2 dX7_readsName_281
          · have c_175 : k = 0 := (nI_eq (a := k) (b := 0) (by omega) (by omega)).mp c_175
            have hk0 : k = 0 := c_175
            have hNE : namE (tx fT) ln (p0 + q0 + r0) at_ = 1 := by unfold namE; rw [hk8, if_pos hk0]
            refine lv_aload_n hx hb dX7_readsName_178 rfl (lv_at hl 1 rfl) ?_
            refine lv_iconst (v := nI 1) hx hb dX7_readsName_179 (by decide) ?_
            refine lv_iload_n hx hb dX7_readsName_180 rfl (lv_at hl 2 rfl) ?_
            have hF9 := va_free (wc := [(o 0, .inr (2, mFs o th p0 q0 r0 mu (zP ln (at_ + 1 + k) (nI 0) ea vs wn op_ bw bb bp uf wr_)))]) hD hS (fun q h => hA q h) [1] rfl
            refine c_v (wr := [(o 7, .inl (dA 2, 200, .inl fT)), (o 5, .inl (dA 1, 2640, .inr (.inl fA_5)))]) (va_runV (As := [.int (nI 1), .int (nI at_)]) (rest := []) ⟨hx, hb, hml, hown, hts⟩ (x7_fails Z (va_A [(o 0, .inr (2, mFs o th p0 q0 r0 mu (zP ln (at_ + 1 + k) (nI 0) ea vs wn op_ bw bb bp uf wr_)))] H.size) H.size (fun q h => Or.inr h) o th p0 q0 r0 mu ln (at_ + 1 + k) (nI 0) ea vs wn op_ bw bb bp uf wr_ (nI 1) (nI at_)) (cwV 2 hts (lw_V q2458 q2460 qs84 q107 q2461) rfl rfl rfl (by decide +kernel) ⟨Nat.le_of_ble_eq_true rfl, Nat.le_of_ble_eq_true rfl⟩) (gP_V (va_recv hK hP (ci := 2) (q0 := 1) rfl rfl) hG hS (fun q _ h => hF9 q h) ⟨rfl, (hP.sub (ws' := [(o 0, .inr (2, mFs o th p0 q0 r0 mu (zP ln (at_ + 1 + k) (nI 0) ea vs wn op_ bw bb bp uf wr_)))]) [1] rfl), (hD.sub (ws' := [(o 0, .inr (2, mFs o th p0 q0 r0 mu (zP ln (at_ + 1 + k) (nI 0) ea vs wn op_ bw bb bp uf wr_)))]) [1] (by decide) rfl).self⟩) rfl rfl hl.1 rfl (lv_room (Nat.le_of_ble_eq_true rfl)) dX7_readsName_181 ⟨by first | decide | omega, by first | decide | omega⟩) hP hD hS hA [1] [0, 2] rfl rfl (by decide) (by decide) (fun u9 H locs hq hX hz hk hP hD hS => ?_)
            have hP : va_P (dC, dI) vwCl [(o 7, .inl (dA 2, 200, .inl fT)), (o 5, .inl (dA 1, 2640, .inr (.inl fA_5))), (o 0, .inr (2, mFs o th p0 q0 r0 mu (zP ln (at_ + 1 + k) (nI 1) (nI at_) vs wn op_ bw bb bp uf wr_)))] H := hP
            have hD : va_D A [(o 7, .inl (dA 2, 200, .inl fT)), (o 5, .inl (dA 1, 2640, .inr (.inl fA_5))), (o 0, .inr (2, mFs o th p0 q0 r0 mu (zP ln (at_ + 1 + k) (nI 1) (nI at_) vs wn op_ bw bb bp uf wr_)))] := hD
            refine lv_iload hx hb dX7_readsName_184 (lv_at hl 9 rfl) ?_
            refine lv_if_eq (tgt := 215) hx hb dX7_readsName_186 (by decide) (fun c_186 => ?_) (fun c_186 => ?_)
            · have hg8 := bI_0 c_186
              refine lv_aload_n hx hb dX7_readsName_215 rfl (lv_at hl 1 rfl) ?_
              refine lv_iconst (v := nI 2) hx hb dX7_readsName_216 (by decide) ?_
              refine lv_iload_n hx hb dX7_readsName_217 rfl (lv_at hl 2 rfl) ?_
              have hF9 := va_free (wc := [(o 0, .inr (2, mFs o th p0 q0 r0 mu (zP ln (at_ + 1 + k) (nI 1) (nI at_) vs wn op_ bw bb bp uf wr_)))]) hD hS (fun q h => hA q h) [2] rfl
              refine c_v (wr := [(o 7, .inl (dA 2, 200, .inl fT)), (o 5, .inl (dA 1, 2640, .inr (.inl fA_5)))]) (va_runV (As := [.int (nI 2), .int (nI at_)]) (rest := []) ⟨hx, hb, hml, hown, hts⟩ (x7_fails Z (va_A [(o 0, .inr (2, mFs o th p0 q0 r0 mu (zP ln (at_ + 1 + k) (nI 1) (nI at_) vs wn op_ bw bb bp uf wr_)))] H.size) H.size (fun q h => Or.inr h) o th p0 q0 r0 mu ln (at_ + 1 + k) (nI 1) (nI at_) vs wn op_ bw bb bp uf wr_ (nI 2) (nI at_)) (cwV 2 hts (lw_V q2458 q2460 qs84 q107 q2461) rfl rfl rfl (by decide +kernel) ⟨Nat.le_of_ble_eq_true rfl, Nat.le_of_ble_eq_true rfl⟩) (gP_V (va_recv hK hP (ci := 2) (q0 := 2) rfl rfl) hG hS (fun q _ h => hF9 q h) ⟨rfl, (hP.sub (ws' := [(o 0, .inr (2, mFs o th p0 q0 r0 mu (zP ln (at_ + 1 + k) (nI 1) (nI at_) vs wn op_ bw bb bp uf wr_)))]) [2] rfl), (hD.sub (ws' := [(o 0, .inr (2, mFs o th p0 q0 r0 mu (zP ln (at_ + 1 + k) (nI 1) (nI at_) vs wn op_ bw bb bp uf wr_)))]) [2] (by decide) rfl).self⟩) rfl rfl hl.1 rfl (lv_room (Nat.le_of_ble_eq_true rfl)) dX7_readsName_218 ⟨by first | decide | omega, by first | decide | omega⟩) hP hD hS hA [2] [0, 1] rfl rfl (by decide) (by decide) (fun u9 H locs hq hX hz hk hP hD hS => ?_)
              have hP : va_P (dC, dI) vwCl [(o 7, .inl (dA 2, 200, .inl fT)), (o 5, .inl (dA 1, 2640, .inr (.inl fA_5))), (o 0, .inr (2, mFs o th p0 q0 r0 mu (zP ln (at_ + 1 + k) (nI 1) (nI at_) vs wn op_ bw bb bp uf wr_)))] H := hP
              have hD : va_D A [(o 7, .inl (dA 2, 200, .inl fT)), (o 5, .inl (dA 1, 2640, .inr (.inl fA_5))), (o 0, .inr (2, mFs o th p0 q0 r0 mu (zP ln (at_ + 1 + k) (nI 1) (nI at_) vs wn op_ bw bb bp uf wr_)))] := hD
              refine lv_iload_n hx hb dX7_readsName_221 rfl (lv_at hl 3 rfl) ?_
              refine lv_if_eq (tgt := 246) hx hb dX7_readsName_222 (by decide) (fun c_222 => ?_) (fun c_222 => ?_)
              · exact absurd c_222 (by decide)
              refine lv_aload_n hx hb dX7_readsName_225 rfl (lv_at hl 1 rfl) ?_
              refine va_get (D := (dC, dI)) (ci := 2) (v := .ref (o 5)) (C := RX7) (T := TX7) (N := 27) hx hb hts in_X7 hown hK hP 2 rfl rfl 8 (by decide) (hts _ q2014) (fun _ h9 => h9) rfl dX7_readsName_226 ?_
              refine lv_bipush (v := nI 33) hx hb dX7_readsName_229 (by decide) ?_
              refine lv_iload hx hb dX7_readsName_231 (lv_at hl 5 rfl) ?_
              refine lv_imul hx hb dX7_readsName_233 ?_
              refine e_i (y := nI (33 * (32 + vs))) (pk_mul _ _) ?_
              refine lv_iconst (v := nI 1) hx hb dX7_readsName_234 (by decide) ?_
              refine lv_iadd hx hb dX7_readsName_235 ?_
              refine e_i (y := nI (33 * (32 + vs) + 1)) (nI_add _ _) ?_
              refine lv_iload hx hb dX7_readsName_236 (lv_at hl 6 rfl) ?_
              refine lv_iadd hx hb dX7_readsName_238 ?_
              refine e_i (y := nI (33 * (32 + vs) + 1 + ((nmF (tx fT) p0 q0 r0 (at_ + 1) k).2))) (nI_add _ _) ?_
              refine lv_iload hx hb dX7_readsName_239 (lv_at hl 7 rfl) ?_
              refine lv_i2l (v := ((nmF (tx fT) p0 q0 r0 (at_ + 1) k).1).toInt64) hx hb dX7_readsName_241 rfl ?_
              refine a_last hx hb hK hP hD hS 1 1 rfl rfl (by have := hnf.2; omega) (by omega) dX7_readsName_242 (fun H locs hP hD hS => ?_)
              have hP : va_P (dC, dI) vwCl [(o 7, .inl (dA 2, 200, .inl fT)), (o 5, .inl (dA 1, 2640, .inr (.inl (vp_updL fA_5 (33 * (32 + vs) + 1 + ((nmF (tx fT) p0 q0 r0 (at_ + 1) k).2)) (((nmF (tx fT) p0 q0 r0 (at_ + 1) k).1).toInt64))))), (o 0, .inr (2, mFs o th p0 q0 r0 mu (zP ln (at_ + 1 + k) (nI 1) (nI at_) vs wn op_ bw bb bp uf wr_)))] H := hP
              have hD : va_D A [(o 7, .inl (dA 2, 200, .inl fT)), (o 5, .inl (dA 1, 2640, .inr (.inl (vp_updL fA_5 (33 * (32 + vs) + 1 + ((nmF (tx fT) p0 q0 r0 (at_ + 1) k).2)) (((nmF (tx fT) p0 q0 r0 (at_ + 1) k).1).toInt64))))), (o 0, .inr (2, mFs o th p0 q0 r0 mu (zP ln (at_ + 1 + k) (nI 1) (nI at_) vs wn op_ bw bb bp uf wr_)))] := hD
              refine lv_goto (tgt := 261) hx hb dX7_readsName_243 (by decide) ?_
              refine lv_aload_n hx hb dX7_readsName_261 rfl (lv_at hl 1 rfl) ?_
              refine lv_dup hx hb dX7_readsName_262 rfl ?_
              refine va_get (D := (dC, dI)) (ci := 2) (v := .int (nI vs)) (C := RX7) (T := TX7) (N := 27) hx hb hts in_X7 hown hK hP 2 rfl rfl 16 (by decide) (hts _ q2022) (fun _ h9 => h9) rfl dX7_readsName_263 ?_
              refine lv_iconst (v := nI 1) hx hb dX7_readsName_266 (by decide) ?_
              refine lv_iadd hx hb dX7_readsName_267 ?_
              refine e_i (y := nI (vs + 1)) (nI_add _ _) ?_
              refine va_put (D := (dC, dI)) (ci := 2) (v := .int (nI (vs + 1))) (ty := .int) (C := RX7) (T := TX7) (N := 27) hx hb hts in_X7 tyX7 tyX7_ok nmX7 hown hK hP hD hS 2 rfl rfl 16 (by decide) (hts _ q2022) (fun _ h9 => h9) rfl (by decide +kernel) rfl rfl (Nat.le_of_ble_eq_true rfl) dX7_readsName_268 (fun H locs hP hD hS => ?_)
              have hP : va_P (dC, dI) vwCl [(o 7, .inl (dA 2, 200, .inl fT)), (o 5, .inl (dA 1, 2640, .inr (.inl (vp_updL fA_5 (33 * (32 + vs) + 1 + ((nmF (tx fT) p0 q0 r0 (at_ + 1) k).2)) (((nmF (tx fT) p0 q0 r0 (at_ + 1) k).1).toInt64))))), (o 0, .inr (2, mFs o th p0 q0 r0 mu (zP ln (at_ + 1 + k) (nI 1) (nI at_) (vs + 1) wn op_ bw bb bp uf wr_)))] H := hP
              have hD : va_D A [(o 7, .inl (dA 2, 200, .inl fT)), (o 5, .inl (dA 1, 2640, .inr (.inl (vp_updL fA_5 (33 * (32 + vs) + 1 + ((nmF (tx fT) p0 q0 r0 (at_ + 1) k).2)) (((nmF (tx fT) p0 q0 r0 (at_ + 1) k).1).toInt64))))), (o 0, .inr (2, mFs o th p0 q0 r0 mu (zP ln (at_ + 1 + k) (nI 1) (nI at_) (vs + 1) wn op_ bw bb bp uf wr_)))] := hD
              refine lv_aload_n hx hb dX7_readsName_271 rfl (lv_at hl 1 rfl) ?_
              refine lv_iconst (v := nI 0) hx hb dX7_readsName_272 (by decide) ?_
              refine va_put (D := (dC, dI)) (ci := 2) (v := .int (nI 0)) (ty := .boolean) (C := RX7) (T := TX7) (N := 27) hx hb hts in_X7 tyX7 tyX7_ok nmX7 hown hK hP hD hS 2 rfl rfl 21 (by decide) (hts _ q2027) (fun _ h9 => h9) rfl (by decide +kernel) rfl rfl (Nat.le_of_ble_eq_true rfl) dX7_readsName_273 (fun H locs hP hD hS => ?_)
              have hP : va_P (dC, dI) vwCl [(o 7, .inl (dA 2, 200, .inl fT)), (o 5, .inl (dA 1, 2640, .inr (.inl (vp_updL fA_5 (33 * (32 + vs) + 1 + ((nmF (tx fT) p0 q0 r0 (at_ + 1) k).2)) (((nmF (tx fT) p0 q0 r0 (at_ + 1) k).1).toInt64))))), (o 0, .inr (2, mFs o th p0 q0 r0 mu (zP ln (at_ + 1 + k) (nI 1) (nI at_) (vs + 1) wn op_ false bb bp uf wr_)))] H := hP
              have hD : va_D A [(o 7, .inl (dA 2, 200, .inl fT)), (o 5, .inl (dA 1, 2640, .inr (.inl (vp_updL fA_5 (33 * (32 + vs) + 1 + ((nmF (tx fT) p0 q0 r0 (at_ + 1) k).2)) (((nmF (tx fT) p0 q0 r0 (at_ + 1) k).1).toInt64))))), (o 0, .inr (2, mFs o th p0 q0 r0 mu (zP ln (at_ + 1 + k) (nI 1) (nI at_) (vs + 1) wn op_ false bb bp uf wr_)))] := hD
              refine lv_aload_n hx hb dX7_readsName_276 rfl (lv_at hl 1 rfl) ?_
              refine lv_iconst (v := nI 0) hx hb dX7_readsName_277 (by decide) ?_
              refine va_put (D := (dC, dI)) (ci := 2) (v := .int (nI 0)) (ty := .boolean) (C := RX7) (T := TX7) (N := 27) hx hb hts in_X7 tyX7 tyX7_ok nmX7 hown hK hP hD hS 2 rfl rfl 23 (by decide) (hts _ q2029) (fun _ h9 => h9) rfl (by decide +kernel) rfl rfl (Nat.le_of_ble_eq_true rfl) dX7_readsName_278 (fun H locs hP hD hS => ?_)
              have hP : va_P (dC, dI) vwCl [(o 7, .inl (dA 2, 200, .inl fT)), (o 5, .inl (dA 1, 2640, .inr (.inl (vp_updL fA_5 (33 * (32 + vs) + 1 + ((nmF (tx fT) p0 q0 r0 (at_ + 1) k).2)) (((nmF (tx fT) p0 q0 r0 (at_ + 1) k).1).toInt64))))), (o 0, .inr (2, mFs o th p0 q0 r0 mu (zP ln (at_ + 1 + k) (nI 1) (nI at_) (vs + 1) wn op_ false bb false uf wr_)))] H := hP
              have hD : va_D A [(o 7, .inl (dA 2, 200, .inl fT)), (o 5, .inl (dA 1, 2640, .inr (.inl (vp_updL fA_5 (33 * (32 + vs) + 1 + ((nmF (tx fT) p0 q0 r0 (at_ + 1) k).2)) (((nmF (tx fT) p0 q0 r0 (at_ + 1) k).1).toInt64))))), (o 0, .inr (2, mFs o th p0 q0 r0 mu (zP ln (at_ + 1 + k) (nI 1) (nI at_) (vs + 1) wn op_ false bb false uf wr_)))] := hD
              subst hQe
              exact W.vret hx hb hr (fun tz ht hW => ⟨⟨vp_updL fA_5 (33 * (32 + vs) + 1 + ((nmF (tx fT) p0 q0 r0 (at_ + 1) k).2)) (((nmF (tx fT) p0 q0 r0 (at_ + 1) k).1).toInt64), rfl, ⟨fun _ => by unfold namM; rw [if_pos c_11, hk8]; exact bld_hold hHe, fun j hj => by rw [pk_uLn (by have := hnf.2; omega)]; exact hSe j hj⟩, B1_at ht (by rw [hNE, hdE]; exact hP.sub [2, 1, 0] rfl) (by rw [hNE, hdE]; exact hD.sub [2, 1, 0] (by decide) rfl) trivial⟩, hS.F ht⟩) hS.2.2 dX7_readsName_281
            · have hg8 := bI_1 c_186
              refine lv_iload hx hb dX7_readsName_189 (lv_at hl 0 rfl) ?_
              refine lv_iload_n hx hb dX7_readsName_191 rfl (lv_at hl 3 rfl) ?_
              refine lv_if_eq (tgt := 200) hx hb dX7_readsName_192 (by decide) (fun c_192 => ?_) (fun c_192 => ?_)
              · exact absurd c_192 (by decide)
              refine lv_bipush (v := nI 10) hx hb dX7_readsName_195 (by decide) ?_
              refine lv_goto (tgt := 201) hx hb dX7_readsName_197 (by decide) ?_
              refine lv_icmp_gt (tgt := 215) hx hb dX7_readsName_201 (by decide) (fun c_201 => ?_) (fun c_201 => ?_)
              · have c_201 : 10 < k := (nI_ltI (a := 10) (b := k) (by omega) (by omega)).mp c_201
                refine lv_aload_n hx hb dX7_readsName_215 rfl (lv_at hl 1 rfl) ?_
                refine lv_iconst (v := nI 2) hx hb dX7_readsName_216 (by decide) ?_
                refine lv_iload_n hx hb dX7_readsName_217 rfl (lv_at hl 2 rfl) ?_
                have hF9 := va_free (wc := [(o 0, .inr (2, mFs o th p0 q0 r0 mu (zP ln (at_ + 1 + k) (nI 1) (nI at_) vs wn op_ bw bb bp uf wr_)))]) hD hS (fun q h => hA q h) [2] rfl
                refine c_v (wr := [(o 7, .inl (dA 2, 200, .inl fT)), (o 5, .inl (dA 1, 2640, .inr (.inl fA_5)))]) (va_runV (As := [.int (nI 2), .int (nI at_)]) (rest := []) ⟨hx, hb, hml, hown, hts⟩ (x7_fails Z (va_A [(o 0, .inr (2, mFs o th p0 q0 r0 mu (zP ln (at_ + 1 + k) (nI 1) (nI at_) vs wn op_ bw bb bp uf wr_)))] H.size) H.size (fun q h => Or.inr h) o th p0 q0 r0 mu ln (at_ + 1 + k) (nI 1) (nI at_) vs wn op_ bw bb bp uf wr_ (nI 2) (nI at_)) (cwV 2 hts (lw_V q2458 q2460 qs84 q107 q2461) rfl rfl rfl (by decide +kernel) ⟨Nat.le_of_ble_eq_true rfl, Nat.le_of_ble_eq_true rfl⟩) (gP_V (va_recv hK hP (ci := 2) (q0 := 2) rfl rfl) hG hS (fun q _ h => hF9 q h) ⟨rfl, (hP.sub (ws' := [(o 0, .inr (2, mFs o th p0 q0 r0 mu (zP ln (at_ + 1 + k) (nI 1) (nI at_) vs wn op_ bw bb bp uf wr_)))]) [2] rfl), (hD.sub (ws' := [(o 0, .inr (2, mFs o th p0 q0 r0 mu (zP ln (at_ + 1 + k) (nI 1) (nI at_) vs wn op_ bw bb bp uf wr_)))]) [2] (by decide) rfl).self⟩) rfl rfl hl.1 rfl (lv_room (Nat.le_of_ble_eq_true rfl)) dX7_readsName_218 ⟨by first | decide | omega, by first | decide | omega⟩) hP hD hS hA [2] [0, 1] rfl rfl (by decide) (by decide) (fun u9 H locs hq hX hz hk hP hD hS => ?_)
                have hP : va_P (dC, dI) vwCl [(o 7, .inl (dA 2, 200, .inl fT)), (o 5, .inl (dA 1, 2640, .inr (.inl fA_5))), (o 0, .inr (2, mFs o th p0 q0 r0 mu (zP ln (at_ + 1 + k) (nI 1) (nI at_) vs wn op_ bw bb bp uf wr_)))] H := hP
                have hD : va_D A [(o 7, .inl (dA 2, 200, .inl fT)), (o 5, .inl (dA 1, 2640, .inr (.inl fA_5))), (o 0, .inr (2, mFs o th p0 q0 r0 mu (zP ln (at_ + 1 + k) (nI 1) (nI at_) vs wn op_ bw bb bp uf wr_)))] := hD
                refine lv_iload_n hx hb dX7_readsName_221 rfl (lv_at hl 3 rfl) ?_
                refine lv_if_eq (tgt := 246) hx hb dX7_readsName_222 (by decide) (fun c_222 => ?_) (fun c_222 => ?_)
                · exact absurd c_222 (by decide)
                refine lv_aload_n hx hb dX7_readsName_225 rfl (lv_at hl 1 rfl) ?_
                refine va_get (D := (dC, dI)) (ci := 2) (v := .ref (o 5)) (C := RX7) (T := TX7) (N := 27) hx hb hts in_X7 hown hK hP 2 rfl rfl 8 (by decide) (hts _ q2014) (fun _ h9 => h9) rfl dX7_readsName_226 ?_
                refine lv_bipush (v := nI 33) hx hb dX7_readsName_229 (by decide) ?_
                refine lv_iload hx hb dX7_readsName_231 (lv_at hl 5 rfl) ?_
                refine lv_imul hx hb dX7_readsName_233 ?_
                refine e_i (y := nI (33 * (32 + vs))) (pk_mul _ _) ?_
                refine lv_iconst (v := nI 1) hx hb dX7_readsName_234 (by decide) ?_
                refine lv_iadd hx hb dX7_readsName_235 ?_
                refine e_i (y := nI (33 * (32 + vs) + 1)) (nI_add _ _) ?_
                refine lv_iload hx hb dX7_readsName_236 (lv_at hl 6 rfl) ?_
                refine lv_iadd hx hb dX7_readsName_238 ?_
                refine e_i (y := nI (33 * (32 + vs) + 1 + ((nmF (tx fT) p0 q0 r0 (at_ + 1) k).2))) (nI_add _ _) ?_
                refine lv_iload hx hb dX7_readsName_239 (lv_at hl 7 rfl) ?_
                refine lv_i2l (v := ((nmF (tx fT) p0 q0 r0 (at_ + 1) k).1).toInt64) hx hb dX7_readsName_241 rfl ?_
                refine a_last hx hb hK hP hD hS 1 1 rfl rfl (by have := hnf.2; omega) (by omega) dX7_readsName_242 (fun H locs hP hD hS => ?_)
                have hP : va_P (dC, dI) vwCl [(o 7, .inl (dA 2, 200, .inl fT)), (o 5, .inl (dA 1, 2640, .inr (.inl (vp_updL fA_5 (33 * (32 + vs) + 1 + ((nmF (tx fT) p0 q0 r0 (at_ + 1) k).2)) (((nmF (tx fT) p0 q0 r0 (at_ + 1) k).1).toInt64))))), (o 0, .inr (2, mFs o th p0 q0 r0 mu (zP ln (at_ + 1 + k) (nI 1) (nI at_) vs wn op_ bw bb bp uf wr_)))] H := hP
                have hD : va_D A [(o 7, .inl (dA 2, 200, .inl fT)), (o 5, .inl (dA 1, 2640, .inr (.inl (vp_updL fA_5 (33 * (32 + vs) + 1 + ((nmF (tx fT) p0 q0 r0 (at_ + 1) k).2)) (((nmF (tx fT) p0 q0 r0 (at_ + 1) k).1).toInt64))))), (o 0, .inr (2, mFs o th p0 q0 r0 mu (zP ln (at_ + 1 + k) (nI 1) (nI at_) vs wn op_ bw bb bp uf wr_)))] := hD
                refine lv_goto (tgt := 261) hx hb dX7_readsName_243 (by decide) ?_
                refine lv_aload_n hx hb dX7_readsName_261 rfl (lv_at hl 1 rfl) ?_
                refine lv_dup hx hb dX7_readsName_262 rfl ?_
                refine va_get (D := (dC, dI)) (ci := 2) (v := .int (nI vs)) (C := RX7) (T := TX7) (N := 27) hx hb hts in_X7 hown hK hP 2 rfl rfl 16 (by decide) (hts _ q2022) (fun _ h9 => h9) rfl dX7_readsName_263 ?_
                refine lv_iconst (v := nI 1) hx hb dX7_readsName_266 (by decide) ?_
                refine lv_iadd hx hb dX7_readsName_267 ?_
                refine e_i (y := nI (vs + 1)) (nI_add _ _) ?_
                refine va_put (D := (dC, dI)) (ci := 2) (v := .int (nI (vs + 1))) (ty := .int) (C := RX7) (T := TX7) (N := 27) hx hb hts in_X7 tyX7 tyX7_ok nmX7 hown hK hP hD hS 2 rfl rfl 16 (by decide) (hts _ q2022) (fun _ h9 => h9) rfl (by decide +kernel) rfl rfl (Nat.le_of_ble_eq_true rfl) dX7_readsName_268 (fun H locs hP hD hS => ?_)
                have hP : va_P (dC, dI) vwCl [(o 7, .inl (dA 2, 200, .inl fT)), (o 5, .inl (dA 1, 2640, .inr (.inl (vp_updL fA_5 (33 * (32 + vs) + 1 + ((nmF (tx fT) p0 q0 r0 (at_ + 1) k).2)) (((nmF (tx fT) p0 q0 r0 (at_ + 1) k).1).toInt64))))), (o 0, .inr (2, mFs o th p0 q0 r0 mu (zP ln (at_ + 1 + k) (nI 1) (nI at_) (vs + 1) wn op_ bw bb bp uf wr_)))] H := hP
                have hD : va_D A [(o 7, .inl (dA 2, 200, .inl fT)), (o 5, .inl (dA 1, 2640, .inr (.inl (vp_updL fA_5 (33 * (32 + vs) + 1 + ((nmF (tx fT) p0 q0 r0 (at_ + 1) k).2)) (((nmF (tx fT) p0 q0 r0 (at_ + 1) k).1).toInt64))))), (o 0, .inr (2, mFs o th p0 q0 r0 mu (zP ln (at_ + 1 + k) (nI 1) (nI at_) (vs + 1) wn op_ bw bb bp uf wr_)))] := hD
                refine lv_aload_n hx hb dX7_readsName_271 rfl (lv_at hl 1 rfl) ?_
                refine lv_iconst (v := nI 0) hx hb dX7_readsName_272 (by decide) ?_
                refine va_put (D := (dC, dI)) (ci := 2) (v := .int (nI 0)) (ty := .boolean) (C := RX7) (T := TX7) (N := 27) hx hb hts in_X7 tyX7 tyX7_ok nmX7 hown hK hP hD hS 2 rfl rfl 21 (by decide) (hts _ q2027) (fun _ h9 => h9) rfl (by decide +kernel) rfl rfl (Nat.le_of_ble_eq_true rfl) dX7_readsName_273 (fun H locs hP hD hS => ?_)
                have hP : va_P (dC, dI) vwCl [(o 7, .inl (dA 2, 200, .inl fT)), (o 5, .inl (dA 1, 2640, .inr (.inl (vp_updL fA_5 (33 * (32 + vs) + 1 + ((nmF (tx fT) p0 q0 r0 (at_ + 1) k).2)) (((nmF (tx fT) p0 q0 r0 (at_ + 1) k).1).toInt64))))), (o 0, .inr (2, mFs o th p0 q0 r0 mu (zP ln (at_ + 1 + k) (nI 1) (nI at_) (vs + 1) wn op_ false bb bp uf wr_)))] H := hP
                have hD : va_D A [(o 7, .inl (dA 2, 200, .inl fT)), (o 5, .inl (dA 1, 2640, .inr (.inl (vp_updL fA_5 (33 * (32 + vs) + 1 + ((nmF (tx fT) p0 q0 r0 (at_ + 1) k).2)) (((nmF (tx fT) p0 q0 r0 (at_ + 1) k).1).toInt64))))), (o 0, .inr (2, mFs o th p0 q0 r0 mu (zP ln (at_ + 1 + k) (nI 1) (nI at_) (vs + 1) wn op_ false bb bp uf wr_)))] := hD
                refine lv_aload_n hx hb dX7_readsName_276 rfl (lv_at hl 1 rfl) ?_
                refine lv_iconst (v := nI 0) hx hb dX7_readsName_277 (by decide) ?_
                refine va_put (D := (dC, dI)) (ci := 2) (v := .int (nI 0)) (ty := .boolean) (C := RX7) (T := TX7) (N := 27) hx hb hts in_X7 tyX7 tyX7_ok nmX7 hown hK hP hD hS 2 rfl rfl 23 (by decide) (hts _ q2029) (fun _ h9 => h9) rfl (by decide +kernel) rfl rfl (Nat.le_of_ble_eq_true rfl) dX7_readsName_278 (fun H locs hP hD hS => ?_)
                have hP : va_P (dC, dI) vwCl [(o 7, .inl (dA 2, 200, .inl fT)), (o 5, .inl (dA 1, 2640, .inr (.inl (vp_updL fA_5 (33 * (32 + vs) + 1 + ((nmF (tx fT) p0 q0 r0 (at_ + 1) k).2)) (((nmF (tx fT) p0 q0 r0 (at_ + 1) k).1).toInt64))))), (o 0, .inr (2, mFs o th p0 q0 r0 mu (zP ln (at_ + 1 + k) (nI 1) (nI at_) (vs + 1) wn op_ false bb false uf wr_)))] H := hP
                have hD : va_D A [(o 7, .inl (dA 2, 200, .inl fT)), (o 5, .inl (dA 1, 2640, .inr (.inl (vp_updL fA_5 (33 * (32 + vs) + 1 + ((nmF (tx fT) p0 q0 r0 (at_ + 1) k).2)) (((nmF (tx fT) p0 q0 r0 (at_ + 1) k).1).toInt64))))), (o 0, .inr (2, mFs o th p0 q0 r0 mu (zP ln (at_ + 1 + k) (nI 1) (nI at_) (vs + 1) wn op_ false bb false uf wr_)))] := hD
                subst hQe
                exact W.vret hx hb hr (fun tz ht hW => ⟨⟨vp_updL fA_5 (33 * (32 + vs) + 1 + ((nmF (tx fT) p0 q0 r0 (at_ + 1) k).2)) (((nmF (tx fT) p0 q0 r0 (at_ + 1) k).1).toInt64), rfl, ⟨fun _ => by unfold namM; rw [if_pos c_11, hk8]; exact bld_hold hHe, fun j hj => by rw [pk_uLn (by have := hnf.2; omega)]; exact hSe j hj⟩, B1_at ht (by rw [hNE, hdE]; exact hP.sub [2, 1, 0] rfl) (by rw [hNE, hdE]; exact hD.sub [2, 1, 0] (by decide) rfl) trivial⟩, hS.F ht⟩) hS.2.2 dX7_readsName_281
              · have c_201 : ¬ 10 < k := fun h => c_201 ((nI_ltI (a := 10) (b := k) (by omega) (by omega)).mpr h)
                refine lv_iload_n hx hb dX7_readsName_204 rfl (lv_at hl 3 rfl) ?_
                refine lv_if_ne (tgt := 221) hx hb dX7_readsName_205 (by decide) (fun c_205 => ?_) (fun c_205 => ?_)
                rotate_left
                · exact absurd c_205 (by decide)
                refine lv_iload_n hx hb dX7_readsName_221 rfl (lv_at hl 3 rfl) ?_
                refine lv_if_eq (tgt := 246) hx hb dX7_readsName_222 (by decide) (fun c_222 => ?_) (fun c_222 => ?_)
                · exact absurd c_222 (by decide)
                refine lv_aload_n hx hb dX7_readsName_225 rfl (lv_at hl 1 rfl) ?_
                refine va_get (D := (dC, dI)) (ci := 2) (v := .ref (o 5)) (C := RX7) (T := TX7) (N := 27) hx hb hts in_X7 hown hK hP 2 rfl rfl 8 (by decide) (hts _ q2014) (fun _ h9 => h9) rfl dX7_readsName_226 ?_
                refine lv_bipush (v := nI 33) hx hb dX7_readsName_229 (by decide) ?_
                refine lv_iload hx hb dX7_readsName_231 (lv_at hl 5 rfl) ?_
                refine lv_imul hx hb dX7_readsName_233 ?_
                refine e_i (y := nI (33 * (32 + vs))) (pk_mul _ _) ?_
                refine lv_iconst (v := nI 1) hx hb dX7_readsName_234 (by decide) ?_
                refine lv_iadd hx hb dX7_readsName_235 ?_
                refine e_i (y := nI (33 * (32 + vs) + 1)) (nI_add _ _) ?_
                refine lv_iload hx hb dX7_readsName_236 (lv_at hl 6 rfl) ?_
                refine lv_iadd hx hb dX7_readsName_238 ?_
                refine e_i (y := nI (33 * (32 + vs) + 1 + ((nmF (tx fT) p0 q0 r0 (at_ + 1) k).2))) (nI_add _ _) ?_
                refine lv_iload hx hb dX7_readsName_239 (lv_at hl 7 rfl) ?_
                refine lv_i2l (v := ((nmF (tx fT) p0 q0 r0 (at_ + 1) k).1).toInt64) hx hb dX7_readsName_241 rfl ?_
                refine a_last hx hb hK hP hD hS 1 1 rfl rfl (by have := hnf.2; omega) (by omega) dX7_readsName_242 (fun H locs hP hD hS => ?_)
                have hP : va_P (dC, dI) vwCl [(o 7, .inl (dA 2, 200, .inl fT)), (o 5, .inl (dA 1, 2640, .inr (.inl (vp_updL fA_5 (33 * (32 + vs) + 1 + ((nmF (tx fT) p0 q0 r0 (at_ + 1) k).2)) (((nmF (tx fT) p0 q0 r0 (at_ + 1) k).1).toInt64))))), (o 0, .inr (2, mFs o th p0 q0 r0 mu (zP ln (at_ + 1 + k) (nI 1) (nI at_) vs wn op_ bw bb bp uf wr_)))] H := hP
                have hD : va_D A [(o 7, .inl (dA 2, 200, .inl fT)), (o 5, .inl (dA 1, 2640, .inr (.inl (vp_updL fA_5 (33 * (32 + vs) + 1 + ((nmF (tx fT) p0 q0 r0 (at_ + 1) k).2)) (((nmF (tx fT) p0 q0 r0 (at_ + 1) k).1).toInt64))))), (o 0, .inr (2, mFs o th p0 q0 r0 mu (zP ln (at_ + 1 + k) (nI 1) (nI at_) vs wn op_ bw bb bp uf wr_)))] := hD
                refine lv_goto (tgt := 261) hx hb dX7_readsName_243 (by decide) ?_
                refine lv_aload_n hx hb dX7_readsName_261 rfl (lv_at hl 1 rfl) ?_
                refine lv_dup hx hb dX7_readsName_262 rfl ?_
                refine va_get (D := (dC, dI)) (ci := 2) (v := .int (nI vs)) (C := RX7) (T := TX7) (N := 27) hx hb hts in_X7 hown hK hP 2 rfl rfl 16 (by decide) (hts _ q2022) (fun _ h9 => h9) rfl dX7_readsName_263 ?_
                refine lv_iconst (v := nI 1) hx hb dX7_readsName_266 (by decide) ?_
                refine lv_iadd hx hb dX7_readsName_267 ?_
                refine e_i (y := nI (vs + 1)) (nI_add _ _) ?_
                refine va_put (D := (dC, dI)) (ci := 2) (v := .int (nI (vs + 1))) (ty := .int) (C := RX7) (T := TX7) (N := 27) hx hb hts in_X7 tyX7 tyX7_ok nmX7 hown hK hP hD hS 2 rfl rfl 16 (by decide) (hts _ q2022) (fun _ h9 => h9) rfl (by decide +kernel) rfl rfl (Nat.le_of_ble_eq_true rfl) dX7_readsName_268 (fun H locs hP hD hS => ?_)
                have hP : va_P (dC, dI) vwCl [(o 7, .inl (dA 2, 200, .inl fT)), (o 5, .inl (dA 1, 2640, .inr (.inl (vp_updL fA_5 (33 * (32 + vs) + 1 + ((nmF (tx fT) p0 q0 r0 (at_ + 1) k).2)) (((nmF (tx fT) p0 q0 r0 (at_ + 1) k).1).toInt64))))), (o 0, .inr (2, mFs o th p0 q0 r0 mu (zP ln (at_ + 1 + k) (nI 1) (nI at_) (vs + 1) wn op_ bw bb bp uf wr_)))] H := hP
                have hD : va_D A [(o 7, .inl (dA 2, 200, .inl fT)), (o 5, .inl (dA 1, 2640, .inr (.inl (vp_updL fA_5 (33 * (32 + vs) + 1 + ((nmF (tx fT) p0 q0 r0 (at_ + 1) k).2)) (((nmF (tx fT) p0 q0 r0 (at_ + 1) k).1).toInt64))))), (o 0, .inr (2, mFs o th p0 q0 r0 mu (zP ln (at_ + 1 + k) (nI 1) (nI at_) (vs + 1) wn op_ bw bb bp uf wr_)))] := hD
                refine lv_aload_n hx hb dX7_readsName_271 rfl (lv_at hl 1 rfl) ?_
                refine lv_iconst (v := nI 0) hx hb dX7_readsName_272 (by decide) ?_
                refine va_put (D := (dC, dI)) (ci := 2) (v := .int (nI 0)) (ty := .boolean) (C := RX7) (T := TX7) (N := 27) hx hb hts in_X7 tyX7 tyX7_ok nmX7 hown hK hP hD hS 2 rfl rfl 21 (by decide) (hts _ q2027) (fun _ h9 => h9) rfl (by decide +kernel) rfl rfl (Nat.le_of_ble_eq_true rfl) dX7_readsName_273 (fun H locs hP hD hS => ?_)
                have hP : va_P (dC, dI) vwCl [(o 7, .inl (dA 2, 200, .inl fT)), (o 5, .inl (dA 1, 2640, .inr (.inl (vp_updL fA_5 (33 * (32 + vs) + 1 + ((nmF (tx fT) p0 q0 r0 (at_ + 1) k).2)) (((nmF (tx fT) p0 q0 r0 (at_ + 1) k).1).toInt64))))), (o 0, .inr (2, mFs o th p0 q0 r0 mu (zP ln (at_ + 1 + k) (nI 1) (nI at_) (vs + 1) wn op_ false bb bp uf wr_)))] H := hP
                have hD : va_D A [(o 7, .inl (dA 2, 200, .inl fT)), (o 5, .inl (dA 1, 2640, .inr (.inl (vp_updL fA_5 (33 * (32 + vs) + 1 + ((nmF (tx fT) p0 q0 r0 (at_ + 1) k).2)) (((nmF (tx fT) p0 q0 r0 (at_ + 1) k).1).toInt64))))), (o 0, .inr (2, mFs o th p0 q0 r0 mu (zP ln (at_ + 1 + k) (nI 1) (nI at_) (vs + 1) wn op_ false bb bp uf wr_)))] := hD
                refine lv_aload_n hx hb dX7_readsName_276 rfl (lv_at hl 1 rfl) ?_
                refine lv_iconst (v := nI 0) hx hb dX7_readsName_277 (by decide) ?_
                refine va_put (D := (dC, dI)) (ci := 2) (v := .int (nI 0)) (ty := .boolean) (C := RX7) (T := TX7) (N := 27) hx hb hts in_X7 tyX7 tyX7_ok nmX7 hown hK hP hD hS 2 rfl rfl 23 (by decide) (hts _ q2029) (fun _ h9 => h9) rfl (by decide +kernel) rfl rfl (Nat.le_of_ble_eq_true rfl) dX7_readsName_278 (fun H locs hP hD hS => ?_)
                have hP : va_P (dC, dI) vwCl [(o 7, .inl (dA 2, 200, .inl fT)), (o 5, .inl (dA 1, 2640, .inr (.inl (vp_updL fA_5 (33 * (32 + vs) + 1 + ((nmF (tx fT) p0 q0 r0 (at_ + 1) k).2)) (((nmF (tx fT) p0 q0 r0 (at_ + 1) k).1).toInt64))))), (o 0, .inr (2, mFs o th p0 q0 r0 mu (zP ln (at_ + 1 + k) (nI 1) (nI at_) (vs + 1) wn op_ false bb false uf wr_)))] H := hP
                have hD : va_D A [(o 7, .inl (dA 2, 200, .inl fT)), (o 5, .inl (dA 1, 2640, .inr (.inl (vp_updL fA_5 (33 * (32 + vs) + 1 + ((nmF (tx fT) p0 q0 r0 (at_ + 1) k).2)) (((nmF (tx fT) p0 q0 r0 (at_ + 1) k).1).toInt64))))), (o 0, .inr (2, mFs o th p0 q0 r0 mu (zP ln (at_ + 1 + k) (nI 1) (nI at_) (vs + 1) wn op_ false bb false uf wr_)))] := hD
                subst hQe
                exact W.vret hx hb hr (fun tz ht hW => ⟨⟨vp_updL fA_5 (33 * (32 + vs) + 1 + ((nmF (tx fT) p0 q0 r0 (at_ + 1) k).2)) (((nmF (tx fT) p0 q0 r0 (at_ + 1) k).1).toInt64), rfl, ⟨fun _ => by unfold namM; rw [if_pos c_11, hk8]; exact bld_hold hHe, fun j hj => by rw [pk_uLn (by have := hnf.2; omega)]; exact hSe j hj⟩, B1_at ht (by rw [hNE, hdE]; exact hP.sub [2, 1, 0] rfl) (by rw [hNE, hdE]; exact hD.sub [2, 1, 0] (by decide) rfl) trivial⟩, hS.F ht⟩) hS.2.2 dX7_readsName_281
        · have hD8 := bI_1 c_66
          have hi8 := D_in rfl hD8
          have hdk := isD_lt hD8
          have hcx : ch (tx fT) ln (at_ + 1 + k) = tx fT (at_ + 1 + k) := ch_lt hi8
          have hnf := nmF_ok (T := tx fT) (p := p0) (q := q0) (r := r0) (b := at_ + 1) k
          refine lv_aload_n hx hb dX7_readsName_69 rfl (lv_at hl 0 rfl) ?_
          refine s_i (va_runV (As := []) (rest := []) ⟨hx, hb, hml, hown, hts⟩ (x7_see Z o th p0 q0 r0 mu ln (at_ + 1 + k) (nI 0) ea vs wn op_ bw bb bp uf wr_ fT (by omega) (by omega)) (cwV 0 hts (lw_V q2438 q2440 qs79 q107 q2441) rfl rfl rfl (by decide +kernel) ⟨Nat.le_of_ble_eq_true rfl, Nat.le_of_ble_eq_true rfl⟩) (gP_V (va_recv hK hP (ci := 2) (q0 := 1) rfl rfl) hG hS (fun q _ h => h.elim) (hP.sub (ws' := [(o 0, .inr (2, mFs o th p0 q0 r0 mu (zP ln (at_ + 1 + k) (nI 0) ea vs wn op_ bw bb bp uf wr_))), (o 7, .inl (dA 2, 200, .inl fT))]) [1, 0] rfl)) rfl rfl hl.1 rfl (lv_room (Nat.le_of_ble_eq_true rfl)) dX7_readsName_70 ⟨by first | decide | omega, by first | decide | omega⟩) ?_
          refine e_i (y := nI (tx fT (at_ + 1 + k))) ((by rw [hcx]; exact chI_n (tx_lt _ _))) ?_
          refine lv_bipush (v := nI 48) hx hb dX7_readsName_73 (by decide) ?_
          refine lv_isub hx hb dX7_readsName_75 ?_
          refine e_i (y := nI ((tx fT (at_ + 1 + k)) - 48)) (pk_sub (by omega)) ?_
          refine lv_istore (lv' := [(7, .int (nI ((tx fT (at_ + 1 + k)) - 48))), (0, .ref (o 0)), (1, .int (nI at_)), (2, .int (nI 1)), (3, .int (nI (at_ + 1))), (4, .int (nI (32 + vs))), (5, .int (nI ((nmF (tx fT) p0 q0 r0 (at_ + 1) k).2))), (6, .int ((nmF (tx fT) p0 q0 r0 (at_ + 1) k).1)), (8, .int (bI (nmG (tx fT) (p0 + q0 + r0) (at_ + 1) k)))]) hx hb dX7_readsName_76 hl (by decide) rfl (fun ls hl => ?_)
          refine lv_iload_n hx hb dX7_readsName_78 rfl (lv_at hl 3 rfl) ?_
          refine lv_if_eq (tgt := 123) hx hb dX7_readsName_79 (by decide) (fun c_79 => ?_) (fun c_79 => ?_)
          · exact absurd c_79 (by decide)
          refine lv_iload hx hb dX7_readsName_82 (lv_at hl 0 rfl) ?_
          refine lv_iconst (v := nI 1) hx hb dX7_readsName_84 (by decide) ?_
          refine lv_aload_n hx hb dX7_readsName_85 rfl (lv_at hl 1 rfl) ?_
          refine s_i (va_runV (As := []) (rest := [.int (nI 1), .int (nI ((tx fT (at_ + 1 + k)) - 48))]) ⟨hx, hb, hml, hown, hts⟩ (x7_n Z o th p0 q0 r0 mu (zP ln (at_ + 1 + k) (nI 0) ea vs wn op_ bw bb bp uf wr_)) (cwV 0 hts (lw_V q2151 q2153 qs44 q107 q2154) rfl rfl rfl (by decide +kernel) ⟨Nat.le_of_ble_eq_true rfl, Nat.le_of_ble_eq_true rfl⟩) (gP_V (va_recv hK hP (ci := 2) (q0 := 1) rfl rfl) hG hS (fun q _ h => h.elim) (hP.sub (ws' := [(o 0, .inr (2, mFs o th p0 q0 r0 mu (zP ln (at_ + 1 + k) (nI 0) ea vs wn op_ bw bb bp uf wr_)))]) [1] rfl)) rfl rfl hl.1 rfl (lv_room (Nat.le_of_ble_eq_true rfl)) dX7_readsName_86 ⟨by first | decide | omega, by first | decide | omega⟩) ?_
          refine s_i (va_runS (As := [.int (nI ((tx fT (at_ + 1 + k)) - 48)), .int (nI 1), .int (nI (p0 + q0 + r0))]) (rest := []) ⟨hx, hb, hml, hown, hts⟩ (x7_in Z (nI ((tx fT (at_ + 1 + k)) - 48)) (nI 1) (nI (p0 + q0 + r0))) (va_cwS 3 hts (lw_S q2097 q2098 q107 q2099) rfl rfl rfl (by decide +kernel) ⟨Nat.le_of_ble_eq_true rfl, Nat.le_of_ble_eq_true rfl⟩) (gP_S hG hS (fun q _ h => h.elim) trivial) rfl rfl hl.1 rfl (lv_room (Nat.le_of_ble_eq_true rfl)) dX7_readsName_89 ⟨by first | decide | omega, by first | decide | omega⟩) ?_
          refine lv_if_eq (tgt := 123) hx hb dX7_readsName_92 (by decide) (fun c_92 => ?_) (fun c_92 => ?_)
          · have hin9 : ¬ (49 ≤ tx fT (at_ + 1 + k) ∧ tx fT (at_ + 1 + k) - 48 ≤ p0 + q0 + r0) := inB_dign (by omega) (by omega) (bI_0 c_92)
            refine lv_iload hx hb dX7_readsName_123 (lv_at hl 8 rfl) ?_
            refine lv_if_eq (tgt := 149) hx hb dX7_readsName_125 (by decide) (fun c_125 => ?_) (fun c_125 => ?_)
            · have hg9 := bI_0 c_125
              refine lv_iconst (v := nI 0) hx hb dX7_readsName_149 (by decide) ?_
              refine lv_istore (lv' := [(8, .int (nI 0)), (7, .int (nI ((tx fT (at_ + 1 + k)) - 48))), (0, .ref (o 0)), (1, .int (nI at_)), (2, .int (nI 1)), (3, .int (nI (at_ + 1))), (4, .int (nI (32 + vs))), (5, .int (nI ((nmF (tx fT) p0 q0 r0 (at_ + 1) k).2))), (6, .int ((nmF (tx fT) p0 q0 r0 (at_ + 1) k).1))]) hx hb dX7_readsName_150 hl (by decide) rfl (fun ls hl => ?_)
              have hF8 : nmF (tx fT) p0 q0 r0 (at_ + 1) (k + 1) = nmF (tx fT) p0 q0 r0 (at_ + 1) k := if_neg hin9
              have hl : lv_has ls 10 [(8, .int (nI 0)), (7, .int (nI ((tx fT (at_ + 1 + k)) - 48))), (0, .ref (o 0)), (1, .int (nI at_)), (2, .int (nI 1)), (3, .int (nI (at_ + 1))), (4, .int (nI (32 + vs))), (5, .int (nI ((nmF (tx fT) p0 q0 r0 (at_ + 1) (k + 1)).2))), (6, .int ((nmF (tx fT) p0 q0 r0 (at_ + 1) k).1))] := by rw [show nI ((nmF (tx fT) p0 q0 r0 (at_ + 1) (k + 1)).2) = nI ((nmF (tx fT) p0 q0 r0 (at_ + 1) k).2) from (by rw [hF8])]; exact hl
              have hl : lv_has ls 10 [(8, .int (nI 0)), (7, .int (nI ((tx fT (at_ + 1 + k)) - 48))), (0, .ref (o 0)), (1, .int (nI at_)), (2, .int (nI 1)), (3, .int (nI (at_ + 1))), (4, .int (nI (32 + vs))), (5, .int (nI ((nmF (tx fT) p0 q0 r0 (at_ + 1) (k + 1)).2))), (6, .int ((nmF (tx fT) p0 q0 r0 (at_ + 1) (k + 1)).1))] := by rw [show (nmF (tx fT) p0 q0 r0 (at_ + 1) (k + 1)).1 = (nmF (tx fT) p0 q0 r0 (at_ + 1) k).1 from (by rw [hF8])]; exact hl
              have hG8 : nmG (tx fT) (p0 + q0 + r0) (at_ + 1) (k + 1) = (nmG (tx fT) (p0 + q0 + r0) (at_ + 1) k && decide (49 ≤ tx fT (at_ + 1 + k) ∧ tx fT (at_ + 1 + k) - 48 ≤ p0 + q0 + r0)) := rfl
              have hl : lv_has ls 10 [(8, .int (bI (nmG (tx fT) (p0 + q0 + r0) (at_ + 1) (k + 1)))), (7, .int (nI ((tx fT (at_ + 1 + k)) - 48))), (0, .ref (o 0)), (1, .int (nI at_)), (2, .int (nI 1)), (3, .int (nI (at_ + 1))), (4, .int (nI (32 + vs))), (5, .int (nI ((nmF (tx fT) p0 q0 r0 (at_ + 1) (k + 1)).2))), (6, .int ((nmF (tx fT) p0 q0 r0 (at_ + 1) (k + 1)).1))] := by rw [show bI (nmG (tx fT) (p0 + q0 + r0) (at_ + 1) (k + 1)) = nI 0 from (by rw [hG8, hg9, decide_eq_false hin9]; rfl)]; exact hl
              refine lv_aload_n hx hb dX7_readsName_152 rfl (lv_at hl 2 rfl) ?_
              refine lv_dup hx hb dX7_readsName_153 rfl ?_
              refine va_get (D := (dC, dI)) (ci := 2) (v := .int (nI (at_ + 1 + k))) (C := RX7) (T := TX7) (N := 27) hx hb hts in_X7 hown hK hP 1 rfl rfl 13 (by decide) (hts _ q2019) (fun _ h9 => h9) rfl dX7_readsName_154 ?_
              refine lv_iconst (v := nI 1) hx hb dX7_readsName_157 (by decide) ?_
              refine lv_iadd hx hb dX7_readsName_158 ?_
              refine e_i (y := nI (at_ + 1 + k + 1)) (nI_add _ _) ?_
              refine va_put (D := (dC, dI)) (ci := 2) (v := .int (nI (at_ + 1 + k + 1))) (ty := .int) (C := RX7) (T := TX7) (N := 27) hx hb hts in_X7 tyX7 tyX7_ok nmX7 hown hK hP hD hS 1 rfl rfl 13 (by decide) (hts _ q2019) (fun _ h9 => h9) rfl (by decide +kernel) rfl rfl (Nat.le_of_ble_eq_true rfl) dX7_readsName_159 (fun H locs hP hD hS => ?_)
              have hP : va_P (dC, dI) vwCl [(o 7, .inl (dA 2, 200, .inl fT)), (o 0, .inr (2, mFs o th p0 q0 r0 mu (zP ln (at_ + 1 + k + 1) (nI 0) ea vs wn op_ bw bb bp uf wr_))), (o 5, .inl (dA 1, 2640, .inr (.inl fA_5)))] H := hP
              have hD : va_D A [(o 7, .inl (dA 2, 200, .inl fT)), (o 0, .inr (2, mFs o th p0 q0 r0 mu (zP ln (at_ + 1 + k + 1) (nI 0) ea vs wn op_ bw bb bp uf wr_))), (o 5, .inl (dA 1, 2640, .inr (.inl fA_5)))] := hD
              refine lv_goto (tgt := 62) hx hb dX7_readsName_162 (by decide) ?_
              exact ih_8 (k + 1) H locs ls ((by omega)) (by omega) (by rw [← hs9]; exact (runE_t (i := at_ + 1 + k) hi8 hD8).symm) (hP.sub [0, 1, 2] rfl) (hD.sub [0, 1, 2] (by decide) rfl) hS (lv_sub hl [2, 3, 4, 5, 6, 7, 8, 1, 0] rfl)
            · have hg9 := bI_1 c_125
              refine lv_iload_n hx hb dX7_readsName_128 rfl (lv_at hl 3 rfl) ?_
              refine lv_if_eq (tgt := 145) hx hb dX7_readsName_129 (by decide) (fun c_129 => ?_) (fun c_129 => ?_)
              · exact absurd c_129 (by decide)
              refine lv_iload hx hb dX7_readsName_132 (lv_at hl 0 rfl) ?_
              refine lv_iconst (v := nI 1) hx hb dX7_readsName_134 (by decide) ?_
              refine lv_aload_n hx hb dX7_readsName_135 rfl (lv_at hl 1 rfl) ?_
              refine s_i (va_runV (As := []) (rest := [.int (nI 1), .int (nI ((tx fT (at_ + 1 + k)) - 48))]) ⟨hx, hb, hml, hown, hts⟩ (x7_n Z o th p0 q0 r0 mu (zP ln (at_ + 1 + k) (nI 0) ea vs wn op_ bw bb bp uf wr_)) (cwV 0 hts (lw_V q2151 q2153 qs44 q107 q2154) rfl rfl rfl (by decide +kernel) ⟨Nat.le_of_ble_eq_true rfl, Nat.le_of_ble_eq_true rfl⟩) (gP_V (va_recv hK hP (ci := 2) (q0 := 1) rfl rfl) hG hS (fun q _ h => h.elim) (hP.sub (ws' := [(o 0, .inr (2, mFs o th p0 q0 r0 mu (zP ln (at_ + 1 + k) (nI 0) ea vs wn op_ bw bb bp uf wr_)))]) [1] rfl)) rfl rfl hl.1 rfl (lv_room (Nat.le_of_ble_eq_true rfl)) dX7_readsName_136 ⟨by first | decide | omega, by first | decide | omega⟩) ?_
              refine s_i (va_runS (As := [.int (nI ((tx fT (at_ + 1 + k)) - 48)), .int (nI 1), .int (nI (p0 + q0 + r0))]) (rest := []) ⟨hx, hb, hml, hown, hts⟩ (x7_in Z (nI ((tx fT (at_ + 1 + k)) - 48)) (nI 1) (nI (p0 + q0 + r0))) (va_cwS 3 hts (lw_S q2097 q2098 q107 q2099) rfl rfl rfl (by decide +kernel) ⟨Nat.le_of_ble_eq_true rfl, Nat.le_of_ble_eq_true rfl⟩) (gP_S hG hS (fun q _ h => h.elim) trivial) rfl rfl hl.1 rfl (lv_room (Nat.le_of_ble_eq_true rfl)) dX7_readsName_139 ⟨by first | decide | omega, by first | decide | omega⟩) ?_
              refine lv_if_eq (tgt := 149) hx hb dX7_readsName_142 (by decide) (fun c_142 => ?_) (fun c_142 => ?_)
              · refine lv_iconst (v := nI 0) hx hb dX7_readsName_149 (by decide) ?_
                refine lv_istore (lv' := [(8, .int (nI 0)), (7, .int (nI ((tx fT (at_ + 1 + k)) - 48))), (0, .ref (o 0)), (1, .int (nI at_)), (2, .int (nI 1)), (3, .int (nI (at_ + 1))), (4, .int (nI (32 + vs))), (5, .int (nI ((nmF (tx fT) p0 q0 r0 (at_ + 1) k).2))), (6, .int ((nmF (tx fT) p0 q0 r0 (at_ + 1) k).1))]) hx hb dX7_readsName_150 hl (by decide) rfl (fun ls hl => ?_)
                have hF8 : nmF (tx fT) p0 q0 r0 (at_ + 1) (k + 1) = nmF (tx fT) p0 q0 r0 (at_ + 1) k := if_neg hin9
                have hl : lv_has ls 10 [(8, .int (nI 0)), (7, .int (nI ((tx fT (at_ + 1 + k)) - 48))), (0, .ref (o 0)), (1, .int (nI at_)), (2, .int (nI 1)), (3, .int (nI (at_ + 1))), (4, .int (nI (32 + vs))), (5, .int (nI ((nmF (tx fT) p0 q0 r0 (at_ + 1) (k + 1)).2))), (6, .int ((nmF (tx fT) p0 q0 r0 (at_ + 1) k).1))] := by rw [show nI ((nmF (tx fT) p0 q0 r0 (at_ + 1) (k + 1)).2) = nI ((nmF (tx fT) p0 q0 r0 (at_ + 1) k).2) from (by rw [hF8])]; exact hl
                have hl : lv_has ls 10 [(8, .int (nI 0)), (7, .int (nI ((tx fT (at_ + 1 + k)) - 48))), (0, .ref (o 0)), (1, .int (nI at_)), (2, .int (nI 1)), (3, .int (nI (at_ + 1))), (4, .int (nI (32 + vs))), (5, .int (nI ((nmF (tx fT) p0 q0 r0 (at_ + 1) (k + 1)).2))), (6, .int ((nmF (tx fT) p0 q0 r0 (at_ + 1) (k + 1)).1))] := by rw [show (nmF (tx fT) p0 q0 r0 (at_ + 1) (k + 1)).1 = (nmF (tx fT) p0 q0 r0 (at_ + 1) k).1 from (by rw [hF8])]; exact hl
                have hG8 : nmG (tx fT) (p0 + q0 + r0) (at_ + 1) (k + 1) = (nmG (tx fT) (p0 + q0 + r0) (at_ + 1) k && decide (49 ≤ tx fT (at_ + 1 + k) ∧ tx fT (at_ + 1 + k) - 48 ≤ p0 + q0 + r0)) := rfl
                have hl : lv_has ls 10 [(8, .int (bI (nmG (tx fT) (p0 + q0 + r0) (at_ + 1) (k + 1)))), (7, .int (nI ((tx fT (at_ + 1 + k)) - 48))), (0, .ref (o 0)), (1, .int (nI at_)), (2, .int (nI 1)), (3, .int (nI (at_ + 1))), (4, .int (nI (32 + vs))), (5, .int (nI ((nmF (tx fT) p0 q0 r0 (at_ + 1) (k + 1)).2))), (6, .int ((nmF (tx fT) p0 q0 r0 (at_ + 1) (k + 1)).1))] := by rw [show bI (nmG (tx fT) (p0 + q0 + r0) (at_ + 1) (k + 1)) = nI 0 from (by rw [hG8, hg9, decide_eq_false hin9]; rfl)]; exact hl
                refine lv_aload_n hx hb dX7_readsName_152 rfl (lv_at hl 2 rfl) ?_
                refine lv_dup hx hb dX7_readsName_153 rfl ?_
                refine va_get (D := (dC, dI)) (ci := 2) (v := .int (nI (at_ + 1 + k))) (C := RX7) (T := TX7) (N := 27) hx hb hts in_X7 hown hK hP 1 rfl rfl 13 (by decide) (hts _ q2019) (fun _ h9 => h9) rfl dX7_readsName_154 ?_
                refine lv_iconst (v := nI 1) hx hb dX7_readsName_157 (by decide) ?_
                refine lv_iadd hx hb dX7_readsName_158 ?_
                refine e_i (y := nI (at_ + 1 + k + 1)) (nI_add _ _) ?_
                refine va_put (D := (dC, dI)) (ci := 2) (v := .int (nI (at_ + 1 + k + 1))) (ty := .int) (C := RX7) (T := TX7) (N := 27) hx hb hts in_X7 tyX7 tyX7_ok nmX7 hown hK hP hD hS 1 rfl rfl 13 (by decide) (hts _ q2019) (fun _ h9 => h9) rfl (by decide +kernel) rfl rfl (Nat.le_of_ble_eq_true rfl) dX7_readsName_159 (fun H locs hP hD hS => ?_)
                have hP : va_P (dC, dI) vwCl [(o 7, .inl (dA 2, 200, .inl fT)), (o 0, .inr (2, mFs o th p0 q0 r0 mu (zP ln (at_ + 1 + k + 1) (nI 0) ea vs wn op_ bw bb bp uf wr_))), (o 5, .inl (dA 1, 2640, .inr (.inl fA_5)))] H := hP
                have hD : va_D A [(o 7, .inl (dA 2, 200, .inl fT)), (o 0, .inr (2, mFs o th p0 q0 r0 mu (zP ln (at_ + 1 + k + 1) (nI 0) ea vs wn op_ bw bb bp uf wr_))), (o 5, .inl (dA 1, 2640, .inr (.inl fA_5)))] := hD
                refine lv_goto (tgt := 62) hx hb dX7_readsName_162 (by decide) ?_
                exact ih_8 (k + 1) H locs ls ((by omega)) (by omega) (by rw [← hs9]; exact (runE_t (i := at_ + 1 + k) hi8 hD8).symm) (hP.sub [0, 1, 2] rfl) (hD.sub [0, 1, 2] (by decide) rfl) hS (lv_sub hl [2, 3, 4, 5, 6, 7, 8, 1, 0] rfl)
              · exact absurd (inB_dig (by omega) (by omega) (bI_1 c_142)) (hin9)
          · have hin9 : (49 ≤ tx fT (at_ + 1 + k) ∧ tx fT (at_ + 1 + k) - 48 ≤ p0 + q0 + r0) := inB_dig (by omega) (by omega) (bI_1 c_92)
            refine lv_iload hx hb dX7_readsName_95 (lv_at hl 7 rfl) ?_
            refine lv_aload_n hx hb dX7_readsName_97 rfl (lv_at hl 1 rfl) ?_
            refine lv_iload hx hb dX7_readsName_98 (lv_at hl 6 rfl) ?_
            refine lv_iconst (v := nI 1) hx hb dX7_readsName_100 (by decide) ?_
            refine lv_iload hx hb dX7_readsName_101 (lv_at hl 0 rfl) ?_
            refine lv_iconst (v := nI 1) hx hb dX7_readsName_103 (by decide) ?_
            refine lv_isub hx hb dX7_readsName_104 ?_
            refine e_i (y := nI (((tx fT (at_ + 1 + k)) - 48) - 1)) (pk_sub (by omega)) ?_
            refine lv_ishl hx hb dX7_readsName_105 ?_
            refine e_i (y := nI (2 ^ (((tx fT (at_ + 1 + k)) - 48) - 1))) (n_shl1 (by omega)) ?_
            refine s_i (va_runV (As := [.int (nI ((nmF (tx fT) p0 q0 r0 (at_ + 1) k).2)), .int (nI (2 ^ (((tx fT (at_ + 1 + k)) - 48) - 1)))]) (rest := [.int ((nmF (tx fT) p0 q0 r0 (at_ + 1) k).1)]) ⟨hx, hb, hml, hown, hts⟩ (x7_signOf Z o th p0 q0 r0 mu (zP ln (at_ + 1 + k) (nI 0) ea vs wn op_ bw bb bp uf wr_) ((nmF (tx fT) p0 q0 r0 (at_ + 1) k).2) (2 ^ (((tx fT (at_ + 1 + k)) - 48) - 1)) (by omega) (Nat.lt_of_lt_of_le hnf.2 hn5) (Nat.lt_of_lt_of_le (Nat.pow_lt_pow_right (by decide) (by omega)) hn5)) (cwV 2 hts (lw_V q2161 q2163 qs45 q107 q2164) rfl rfl rfl (by decide +kernel) ⟨Nat.le_of_ble_eq_true rfl, Nat.le_of_ble_eq_true rfl⟩) (gP_V (va_recv hK hP (ci := 2) (q0 := 1) rfl rfl) hG hS (fun q _ h => h.elim) (hP.sub (ws' := [(o 0, .inr (2, mFs o th p0 q0 r0 mu (zP ln (at_ + 1 + k) (nI 0) ea vs wn op_ bw bb bp uf wr_)))]) [1] rfl)) rfl rfl hl.1 rfl (lv_room (Nat.le_of_ble_eq_true rfl)) dX7_readsName_106 ⟨by first | decide | omega, by first | decide | omega⟩) ?_
            refine lv_imul hx hb dX7_readsName_109 ?_
            refine lv_istore (lv' := [(6, .int (((nmF (tx fT) p0 q0 r0 (at_ + 1) k).1) * (sgS p0 q0 r0 ((nmF (tx fT) p0 q0 r0 (at_ + 1) k).2) (2 ^ (((tx fT (at_ + 1 + k)) - 48) - 1))))), (7, .int (nI ((tx fT (at_ + 1 + k)) - 48))), (0, .ref (o 0)), (1, .int (nI at_)), (2, .int (nI 1)), (3, .int (nI (at_ + 1))), (4, .int (nI (32 + vs))), (5, .int (nI ((nmF (tx fT) p0 q0 r0 (at_ + 1) k).2))), (8, .int (bI (nmG (tx fT) (p0 + q0 + r0) (at_ + 1) k)))]) hx hb dX7_readsName_110 hl (by decide) rfl (fun ls hl => ?_)
            refine lv_iload hx hb dX7_readsName_112 (lv_at hl 7 rfl) ?_
            refine lv_iconst (v := nI 1) hx hb dX7_readsName_114 (by decide) ?_
            refine lv_iload hx hb dX7_readsName_115 (lv_at hl 1 rfl) ?_
            refine lv_iconst (v := nI 1) hx hb dX7_readsName_117 (by decide) ?_
            refine lv_isub hx hb dX7_readsName_118 ?_
            refine e_i (y := nI (((tx fT (at_ + 1 + k)) - 48) - 1)) (pk_sub (by omega)) ?_
            refine lv_ishl hx hb dX7_readsName_119 ?_
            refine e_i (y := nI (2 ^ (((tx fT (at_ + 1 + k)) - 48) - 1))) (n_shl1 (by omega)) ?_
            refine lv_ixor hx hb dX7_readsName_120 ?_
            refine e_i (y := nI (((nmF (tx fT) p0 q0 r0 (at_ + 1) k).2) ^^^ (2 ^ (((tx fT (at_ + 1 + k)) - 48) - 1)))) (n_xor _ _) ?_
            refine lv_istore (lv' := [(5, .int (nI (((nmF (tx fT) p0 q0 r0 (at_ + 1) k).2) ^^^ (2 ^ (((tx fT (at_ + 1 + k)) - 48) - 1))))), (6, .int (((nmF (tx fT) p0 q0 r0 (at_ + 1) k).1) * (sgS p0 q0 r0 ((nmF (tx fT) p0 q0 r0 (at_ + 1) k).2) (2 ^ (((tx fT (at_ + 1 + k)) - 48) - 1))))), (7, .int (nI ((tx fT (at_ + 1 + k)) - 48))), (0, .ref (o 0)), (1, .int (nI at_)), (2, .int (nI 1)), (3, .int (nI (at_ + 1))), (4, .int (nI (32 + vs))), (8, .int (bI (nmG (tx fT) (p0 + q0 + r0) (at_ + 1) k)))]) hx hb dX7_readsName_121 hl (by decide) rfl (fun ls hl => ?_)
            refine lv_iload hx hb dX7_readsName_123 (lv_at hl 8 rfl) ?_
            refine lv_if_eq (tgt := 149) hx hb dX7_readsName_125 (by decide) (fun c_125 => ?_) (fun c_125 => ?_)
            · have hg9 := bI_0 c_125
              refine lv_iconst (v := nI 0) hx hb dX7_readsName_149 (by decide) ?_
              refine lv_istore (lv' := [(8, .int (nI 0)), (5, .int (nI (((nmF (tx fT) p0 q0 r0 (at_ + 1) k).2) ^^^ (2 ^ (((tx fT (at_ + 1 + k)) - 48) - 1))))), (6, .int (((nmF (tx fT) p0 q0 r0 (at_ + 1) k).1) * (sgS p0 q0 r0 ((nmF (tx fT) p0 q0 r0 (at_ + 1) k).2) (2 ^ (((tx fT (at_ + 1 + k)) - 48) - 1))))), (7, .int (nI ((tx fT (at_ + 1 + k)) - 48))), (0, .ref (o 0)), (1, .int (nI at_)), (2, .int (nI 1)), (3, .int (nI (at_ + 1))), (4, .int (nI (32 + vs)))]) hx hb dX7_readsName_150 hl (by decide) rfl (fun ls hl => ?_)
              have hF8 : nmF (tx fT) p0 q0 r0 (at_ + 1) (k + 1) = ((nmF (tx fT) p0 q0 r0 (at_ + 1) k).1 * sgS p0 q0 r0 (nmF (tx fT) p0 q0 r0 (at_ + 1) k).2 (2 ^ (tx fT (at_ + 1 + k) - 48 - 1)), (nmF (tx fT) p0 q0 r0 (at_ + 1) k).2 ^^^ 2 ^ (tx fT (at_ + 1 + k) - 48 - 1)) := if_pos hin9
              have hl : lv_has ls 10 [(8, .int (nI 0)), (5, .int (nI ((nmF (tx fT) p0 q0 r0 (at_ + 1) (k + 1)).2))), (6, .int (((nmF (tx fT) p0 q0 r0 (at_ + 1) k).1) * (sgS p0 q0 r0 ((nmF (tx fT) p0 q0 r0 (at_ + 1) k).2) (2 ^ (((tx fT (at_ + 1 + k)) - 48) - 1))))), (7, .int (nI ((tx fT (at_ + 1 + k)) - 48))), (0, .ref (o 0)), (1, .int (nI at_)), (2, .int (nI 1)), (3, .int (nI (at_ + 1))), (4, .int (nI (32 + vs)))] := by rw [show nI ((nmF (tx fT) p0 q0 r0 (at_ + 1) (k + 1)).2) = nI (((nmF (tx fT) p0 q0 r0 (at_ + 1) k).2) ^^^ (2 ^ (((tx fT (at_ + 1 + k)) - 48) - 1))) from (by rw [hF8])]; exact hl
              have hl : lv_has ls 10 [(8, .int (nI 0)), (5, .int (nI ((nmF (tx fT) p0 q0 r0 (at_ + 1) (k + 1)).2))), (6, .int ((nmF (tx fT) p0 q0 r0 (at_ + 1) (k + 1)).1)), (7, .int (nI ((tx fT (at_ + 1 + k)) - 48))), (0, .ref (o 0)), (1, .int (nI at_)), (2, .int (nI 1)), (3, .int (nI (at_ + 1))), (4, .int (nI (32 + vs)))] := by rw [show (nmF (tx fT) p0 q0 r0 (at_ + 1) (k + 1)).1 = ((nmF (tx fT) p0 q0 r0 (at_ + 1) k).1) * (sgS p0 q0 r0 ((nmF (tx fT) p0 q0 r0 (at_ + 1) k).2) (2 ^ (((tx fT (at_ + 1 + k)) - 48) - 1))) from (by rw [hF8])]; exact hl
              have hG8 : nmG (tx fT) (p0 + q0 + r0) (at_ + 1) (k + 1) = (nmG (tx fT) (p0 + q0 + r0) (at_ + 1) k && decide (49 ≤ tx fT (at_ + 1 + k) ∧ tx fT (at_ + 1 + k) - 48 ≤ p0 + q0 + r0)) := rfl
              have hl : lv_has ls 10 [(8, .int (bI (nmG (tx fT) (p0 + q0 + r0) (at_ + 1) (k + 1)))), (5, .int (nI ((nmF (tx fT) p0 q0 r0 (at_ + 1) (k + 1)).2))), (6, .int ((nmF (tx fT) p0 q0 r0 (at_ + 1) (k + 1)).1)), (7, .int (nI ((tx fT (at_ + 1 + k)) - 48))), (0, .ref (o 0)), (1, .int (nI at_)), (2, .int (nI 1)), (3, .int (nI (at_ + 1))), (4, .int (nI (32 + vs)))] := by rw [show bI (nmG (tx fT) (p0 + q0 + r0) (at_ + 1) (k + 1)) = nI 0 from (by rw [hG8, hg9, decide_eq_true hin9]; rfl)]; exact hl
              refine lv_aload_n hx hb dX7_readsName_152 rfl (lv_at hl 4 rfl) ?_
              refine lv_dup hx hb dX7_readsName_153 rfl ?_
              refine va_get (D := (dC, dI)) (ci := 2) (v := .int (nI (at_ + 1 + k))) (C := RX7) (T := TX7) (N := 27) hx hb hts in_X7 hown hK hP 1 rfl rfl 13 (by decide) (hts _ q2019) (fun _ h9 => h9) rfl dX7_readsName_154 ?_
              refine lv_iconst (v := nI 1) hx hb dX7_readsName_157 (by decide) ?_
              refine lv_iadd hx hb dX7_readsName_158 ?_
              refine e_i (y := nI (at_ + 1 + k + 1)) (nI_add _ _) ?_
              refine va_put (D := (dC, dI)) (ci := 2) (v := .int (nI (at_ + 1 + k + 1))) (ty := .int) (C := RX7) (T := TX7) (N := 27) hx hb hts in_X7 tyX7 tyX7_ok nmX7 hown hK hP hD hS 1 rfl rfl 13 (by decide) (hts _ q2019) (fun _ h9 => h9) rfl (by decide +kernel) rfl rfl (Nat.le_of_ble_eq_true rfl) dX7_readsName_159 (fun H locs hP hD hS => ?_)
              have hP : va_P (dC, dI) vwCl [(o 7, .inl (dA 2, 200, .inl fT)), (o 0, .inr (2, mFs o th p0 q0 r0 mu (zP ln (at_ + 1 + k + 1) (nI 0) ea vs wn op_ bw bb bp uf wr_))), (o 5, .inl (dA 1, 2640, .inr (.inl fA_5)))] H := hP
              have hD : va_D A [(o 7, .inl (dA 2, 200, .inl fT)), (o 0, .inr (2, mFs o th p0 q0 r0 mu (zP ln (at_ + 1 + k + 1) (nI 0) ea vs wn op_ bw bb bp uf wr_))), (o 5, .inl (dA 1, 2640, .inr (.inl fA_5)))] := hD
              refine lv_goto (tgt := 62) hx hb dX7_readsName_162 (by decide) ?_
              exact ih_8 (k + 1) H locs ls ((by omega)) (by omega) (by rw [← hs9]; exact (runE_t (i := at_ + 1 + k) hi8 hD8).symm) (hP.sub [0, 1, 2] rfl) (hD.sub [0, 1, 2] (by decide) rfl) hS (lv_sub hl [4, 5, 6, 7, 8, 1, 2, 3, 0] rfl)
            · have hg9 := bI_1 c_125
              refine lv_iload_n hx hb dX7_readsName_128 rfl (lv_at hl 5 rfl) ?_
              refine lv_if_eq (tgt := 145) hx hb dX7_readsName_129 (by decide) (fun c_129 => ?_) (fun c_129 => ?_)
              · exact absurd c_129 (by decide)
              refine lv_iload hx hb dX7_readsName_132 (lv_at hl 2 rfl) ?_
              refine lv_iconst (v := nI 1) hx hb dX7_readsName_134 (by decide) ?_
              refine lv_aload_n hx hb dX7_readsName_135 rfl (lv_at hl 3 rfl) ?_
              refine s_i (va_runV (As := []) (rest := [.int (nI 1), .int (nI ((tx fT (at_ + 1 + k)) - 48))]) ⟨hx, hb, hml, hown, hts⟩ (x7_n Z o th p0 q0 r0 mu (zP ln (at_ + 1 + k) (nI 0) ea vs wn op_ bw bb bp uf wr_)) (cwV 0 hts (lw_V q2151 q2153 qs44 q107 q2154) rfl rfl rfl (by decide +kernel) ⟨Nat.le_of_ble_eq_true rfl, Nat.le_of_ble_eq_true rfl⟩) (gP_V (va_recv hK hP (ci := 2) (q0 := 1) rfl rfl) hG hS (fun q _ h => h.elim) (hP.sub (ws' := [(o 0, .inr (2, mFs o th p0 q0 r0 mu (zP ln (at_ + 1 + k) (nI 0) ea vs wn op_ bw bb bp uf wr_)))]) [1] rfl)) rfl rfl hl.1 rfl (lv_room (Nat.le_of_ble_eq_true rfl)) dX7_readsName_136 ⟨by first | decide | omega, by first | decide | omega⟩) ?_
              refine s_i (va_runS (As := [.int (nI ((tx fT (at_ + 1 + k)) - 48)), .int (nI 1), .int (nI (p0 + q0 + r0))]) (rest := []) ⟨hx, hb, hml, hown, hts⟩ (x7_in Z (nI ((tx fT (at_ + 1 + k)) - 48)) (nI 1) (nI (p0 + q0 + r0))) (va_cwS 3 hts (lw_S q2097 q2098 q107 q2099) rfl rfl rfl (by decide +kernel) ⟨Nat.le_of_ble_eq_true rfl, Nat.le_of_ble_eq_true rfl⟩) (gP_S hG hS (fun q _ h => h.elim) trivial) rfl rfl hl.1 rfl (lv_room (Nat.le_of_ble_eq_true rfl)) dX7_readsName_139 ⟨by first | decide | omega, by first | decide | omega⟩) ?_
              refine lv_if_eq (tgt := 149) hx hb dX7_readsName_142 (by decide) (fun c_142 => ?_) (fun c_142 => ?_)
              · exact absurd (inB_dign (by omega) (by omega) (bI_0 c_142)) (fun h => h hin9)
              · refine lv_iconst (v := nI 1) hx hb dX7_readsName_145 (by decide) ?_
                refine lv_goto (tgt := 150) hx hb dX7_readsName_146 (by decide) ?_
                refine lv_istore (lv' := [(8, .int (nI 1)), (5, .int (nI (((nmF (tx fT) p0 q0 r0 (at_ + 1) k).2) ^^^ (2 ^ (((tx fT (at_ + 1 + k)) - 48) - 1))))), (6, .int (((nmF (tx fT) p0 q0 r0 (at_ + 1) k).1) * (sgS p0 q0 r0 ((nmF (tx fT) p0 q0 r0 (at_ + 1) k).2) (2 ^ (((tx fT (at_ + 1 + k)) - 48) - 1))))), (7, .int (nI ((tx fT (at_ + 1 + k)) - 48))), (0, .ref (o 0)), (1, .int (nI at_)), (2, .int (nI 1)), (3, .int (nI (at_ + 1))), (4, .int (nI (32 + vs)))]) hx hb dX7_readsName_150 hl (by decide) rfl (fun ls hl => ?_)
                have hF8 : nmF (tx fT) p0 q0 r0 (at_ + 1) (k + 1) = ((nmF (tx fT) p0 q0 r0 (at_ + 1) k).1 * sgS p0 q0 r0 (nmF (tx fT) p0 q0 r0 (at_ + 1) k).2 (2 ^ (tx fT (at_ + 1 + k) - 48 - 1)), (nmF (tx fT) p0 q0 r0 (at_ + 1) k).2 ^^^ 2 ^ (tx fT (at_ + 1 + k) - 48 - 1)) := if_pos hin9
                have hl : lv_has ls 10 [(8, .int (nI 1)), (5, .int (nI ((nmF (tx fT) p0 q0 r0 (at_ + 1) (k + 1)).2))), (6, .int (((nmF (tx fT) p0 q0 r0 (at_ + 1) k).1) * (sgS p0 q0 r0 ((nmF (tx fT) p0 q0 r0 (at_ + 1) k).2) (2 ^ (((tx fT (at_ + 1 + k)) - 48) - 1))))), (7, .int (nI ((tx fT (at_ + 1 + k)) - 48))), (0, .ref (o 0)), (1, .int (nI at_)), (2, .int (nI 1)), (3, .int (nI (at_ + 1))), (4, .int (nI (32 + vs)))] := by rw [show nI ((nmF (tx fT) p0 q0 r0 (at_ + 1) (k + 1)).2) = nI (((nmF (tx fT) p0 q0 r0 (at_ + 1) k).2) ^^^ (2 ^ (((tx fT (at_ + 1 + k)) - 48) - 1))) from (by rw [hF8])]; exact hl
                have hl : lv_has ls 10 [(8, .int (nI 1)), (5, .int (nI ((nmF (tx fT) p0 q0 r0 (at_ + 1) (k + 1)).2))), (6, .int ((nmF (tx fT) p0 q0 r0 (at_ + 1) (k + 1)).1)), (7, .int (nI ((tx fT (at_ + 1 + k)) - 48))), (0, .ref (o 0)), (1, .int (nI at_)), (2, .int (nI 1)), (3, .int (nI (at_ + 1))), (4, .int (nI (32 + vs)))] := by rw [show (nmF (tx fT) p0 q0 r0 (at_ + 1) (k + 1)).1 = ((nmF (tx fT) p0 q0 r0 (at_ + 1) k).1) * (sgS p0 q0 r0 ((nmF (tx fT) p0 q0 r0 (at_ + 1) k).2) (2 ^ (((tx fT (at_ + 1 + k)) - 48) - 1))) from (by rw [hF8])]; exact hl
                have hG8 : nmG (tx fT) (p0 + q0 + r0) (at_ + 1) (k + 1) = (nmG (tx fT) (p0 + q0 + r0) (at_ + 1) k && decide (49 ≤ tx fT (at_ + 1 + k) ∧ tx fT (at_ + 1 + k) - 48 ≤ p0 + q0 + r0)) := rfl
                have hl : lv_has ls 10 [(8, .int (bI (nmG (tx fT) (p0 + q0 + r0) (at_ + 1) (k + 1)))), (5, .int (nI ((nmF (tx fT) p0 q0 r0 (at_ + 1) (k + 1)).2))), (6, .int ((nmF (tx fT) p0 q0 r0 (at_ + 1) (k + 1)).1)), (7, .int (nI ((tx fT (at_ + 1 + k)) - 48))), (0, .ref (o 0)), (1, .int (nI at_)), (2, .int (nI 1)), (3, .int (nI (at_ + 1))), (4, .int (nI (32 + vs)))] := by rw [show bI (nmG (tx fT) (p0 + q0 + r0) (at_ + 1) (k + 1)) = nI 1 from (by rw [hG8, hg9, decide_eq_true hin9]; rfl)]; exact hl
                refine lv_aload_n hx hb dX7_readsName_152 rfl (lv_at hl 4 rfl) ?_
                refine lv_dup hx hb dX7_readsName_153 rfl ?_
                refine va_get (D := (dC, dI)) (ci := 2) (v := .int (nI (at_ + 1 + k))) (C := RX7) (T := TX7) (N := 27) hx hb hts in_X7 hown hK hP 1 rfl rfl 13 (by decide) (hts _ q2019) (fun _ h9 => h9) rfl dX7_readsName_154 ?_
                refine lv_iconst (v := nI 1) hx hb dX7_readsName_157 (by decide) ?_
                refine lv_iadd hx hb dX7_readsName_158 ?_
                refine e_i (y := nI (at_ + 1 + k + 1)) (nI_add _ _) ?_
                refine va_put (D := (dC, dI)) (ci := 2) (v := .int (nI (at_ + 1 + k + 1))) (ty := .int) (C := RX7) (T := TX7) (N := 27) hx hb hts in_X7 tyX7 tyX7_ok nmX7 hown hK hP hD hS 1 rfl rfl 13 (by decide) (hts _ q2019) (fun _ h9 => h9) rfl (by decide +kernel) rfl rfl (Nat.le_of_ble_eq_true rfl) dX7_readsName_159 (fun H locs hP hD hS => ?_)
                have hP : va_P (dC, dI) vwCl [(o 7, .inl (dA 2, 200, .inl fT)), (o 0, .inr (2, mFs o th p0 q0 r0 mu (zP ln (at_ + 1 + k + 1) (nI 0) ea vs wn op_ bw bb bp uf wr_))), (o 5, .inl (dA 1, 2640, .inr (.inl fA_5)))] H := hP
                have hD : va_D A [(o 7, .inl (dA 2, 200, .inl fT)), (o 0, .inr (2, mFs o th p0 q0 r0 mu (zP ln (at_ + 1 + k + 1) (nI 0) ea vs wn op_ bw bb bp uf wr_))), (o 5, .inl (dA 1, 2640, .inr (.inl fA_5)))] := hD
                refine lv_goto (tgt := 62) hx hb dX7_readsName_162 (by decide) ?_
                exact ih_8 (k + 1) H locs ls ((by omega)) (by omega) (by rw [← hs9]; exact (runE_t (i := at_ + 1 + k) hi8 hD8).symm) (hP.sub [0, 1, 2] rfl) (hD.sub [0, 1, 2] (by decide) rfl) hS (lv_sub hl [4, 5, 6, 7, 8, 1, 2, 3, 0] rfl)
    exact loop_8 _ 0 H locs ls (Nat.lt_succ_self _) (by omega) rfl hP hD hS (lv_sub hl [8, 7, 6, 5, 4, 3, 2, 1, 0] rfl)
