theorem pw0 (k : Nat) : 0 < 10 ^ k := Nat.pow_pos (by decide)
theorem pw63 {k : Nat} (h : k ≤ 18) : 10 ^ k < 2 ^ 63 := Nat.lt_of_le_of_lt (Nat.pow_le_pow_right (by decide) h) (by decide)
theorem pw_up {v k : Nat} (h : 10 ≤ v / 10 ^ k) : 10 ^ (k + 1) ≤ v := by
  rw [Nat.pow_succ, Nat.mul_comm]
  exact (Nat.le_div_iff_mul_le (pw0 k)).mp h
theorem pw9 {v k : Nat} (h : 10 ^ (k + 1) ≤ v) (hv : v ≤ 100000000) : k + 1 ≤ 8 := by
  rcases Nat.lt_or_ge 8 (k + 1) with c | c
  · have := Nat.pow_le_pow_right (n := 10) (by decide) (show 9 ≤ k + 1 from c)
    have h9 : 10 ^ 9 = 1000000000 := by decide
    omega
  · exact c
theorem pw8 {v k : Nat} (h : 10 ^ k ≤ v) (hv : v ≤ 100000000) : k ≤ 8 := by
  rcases Nat.lt_or_ge 8 k with c | c
  · have := Nat.pow_le_pow_right (n := 10) (by decide) (show 9 ≤ k from c)
    have h9 : 10 ^ 9 = 1000000000 := by decide
    omega
  · exact c
/-- the powers of ten going down, then 0 -/
def pwX (k : Nat) : Nat → Nat
  | 0 => 10 ^ k
  | i + 1 => pwX k i / 10
theorem pwX_eq {k : Nat} : ∀ {i : Nat}, i ≤ k → pwX k i = 10 ^ (k - i)
  | 0, _ => rfl
  | i + 1, h => by
    show pwX k i / 10 = _
    rw [pwX_eq (by omega : i ≤ k), show k - i = (k - (i + 1)) + 1 by omega, Nat.pow_succ, Nat.mul_div_cancel _ (by decide)]
theorem pwX_z {k : Nat} : pwX k (k + 1) = 0 := by
  show pwX k k / 10 = 0
  rw [pwX_eq (Nat.le_refl k), Nat.sub_self]
theorem pwX_0 {k i : Nat} (h : i ≤ k + 1) (hk : k ≤ 9) (c : lN (pwX k i) ≤ 0) : i = k + 1 := by
  rcases Nat.lt_or_ge k i with q | q
  · omega
  · exfalso
    rw [pwX_eq q] at c
    have := (pk_lLE (pw63 (show k - i ≤ 18 by omega)) (by decide : 0 < 2 ^ 63)).mp c
    have := pw0 (k - i)
    omega
theorem pwX_p {k i : Nat} (h : i ≤ k + 1) (c : ¬ lN (pwX k i) ≤ 0) : i ≤ k := by
  rcases Nat.lt_or_ge k i with q | q
  · exfalso
    have : i = k + 1 := by omega
    subst this
    rw [pwX_z] at c
    exact c (Int64.le_refl _)
  · exact q
set_option maxHeartbeats 4000000 in
theorem x7_writes {l : Launch} {dC : Nat → ClassId} {dI : Nat → Nat → Nat} {dA : Nat → ClassId} {s0 : State} {b0 : Addr} (Z : Z0 l dC dI dA s0 b0) (A : Nat → Prop) (sz : Nat) (hA : ∀ q : Nat, sz ≤ q → A q) (o : Nat → Nat) (th : Int32) (p0 q0 r0 : Nat) (mu : Int64) (ln at_ : Nat) (er ea : Int32) (vs wn op_ : Nat) (bw bb bp : Bool) (uf : Int32) (wr_ : Nat) (fO : Nat → Int32) (c9 : Nat) (hw9 : wr_ < 1200) : Met l yX7_writes (ws_ yX7_writes cX7_writes 2 none) ({ frames := 1, cells := 0, slots := 0, locals := 60 } : Room) (gP [.ref (o 0), .int (nI c9)] s0 A (fun H => H.size = sz ∧ va_P (dC, dI) vwCl [(o 0, .inr (2, mFs o th p0 q0 r0 mu (zP ln at_ er ea vs wn op_ bw bb bp uf wr_))), (o 10, .inl (dA 2, 1200, .inl fO))] H ∧ va_D A [(o 0, .inr (2, mFs o th p0 q0 r0 mu (zP ln at_ er ea vs wn op_ bw bb bp uf wr_))), (o 10, .inl (dA 2, 1200, .inl fO))])) (va_Qv (S := Unit) (fun _ => True) (B1 (dC, dI) A (fun _ => [(o 0, .inr (2, mFs o th p0 q0 r0 mu (zP ln at_ er ea vs wn op_ bw bb bp uf (wr_ + 1)))), (o 10, .inl (dA 2, 1200, .inl (upd fO wr_ (sb_b c9))))]) (fun _ _ => True)) A) 0 0 A := by
  refine Met.ofW (cc := cX7_writes) (maxL := 2) (ret := none) (by decide) rfl ?_
  intro p e s m args below meth c s₁ B hml hv
  obtain ⟨hav, hG, hsz, hP, hD⟩ := hv
  have hx := B.exec
  have hb := B.bytes
  have hr := B.returns
  have hts := atoms_spec (ws := (ws_ yX7_writes cX7_writes 2 none)) B.pre
  have hts : ∀ w ∈ lw_all, w.before _ s = true := fun w h => hts w (List.mem_cons_of_mem _ h)
  have hown : s.vm.findClass RX7 = some m.cls := findClass_of_methodNamed B.named
  have hlocks := B.notSynchronized
  have hK := hG.K Z
  subst hsz
  have hS : va_S A s.heap s.heap [] := va_S.rf
  have hl := lv_entry ([.ref (o 0), .int (nI c9)]) (n := 2) (Nat.le_of_ble_eq_true rfl)
  rw [show entryFrame m args 2 = entryFrame m ([.ref (o 0), .int (nI c9)] : List Value).toArray 2 from by rw [hav], lg_entry_eq]
  generalize (lg_sl ([.ref (o 0), .int (nI c9)]) ++ List.replicate (2 - (lg_sl ([.ref (o 0), .int (nI c9)])).length) Slot.unset).toArray = ls at hl ⊢
  have hl : lv_has ls 2 [(0, .ref (o 0)), (1, .int (nI c9))] := hl
  generalize hQe : MQ below _ _ s _ _ _ = Q
  change W p l e ({ frames := 1, cells := 0, slots := 0, locals := 60 } : Room) s m args below meth c s.heap [] 0 0 Q (F0 m 0 ls [])
  refine lv_aload_n hx hb dX7_writes_0 rfl (lv_at hl 0 rfl) ?_
  refine va_get (D := (dC, dI)) (ci := 2) (v := .ref (o 10)) (C := RX7) (T := TX7) (N := 27) hx hb hts in_X7 hown hK hP 0 rfl rfl 25 (by decide) (hts _ q2031) (fun _ h9 => h9) rfl dX7_writes_1 ?_
  refine lv_aload_n hx hb dX7_writes_4 rfl (lv_at hl 0 rfl) ?_
  refine va_get (D := (dC, dI)) (ci := 2) (v := .int (nI wr_)) (C := RX7) (T := TX7) (N := 27) hx hb hts in_X7 hown hK hP 0 rfl rfl 26 (by decide) (hts _ q2032) (fun _ h9 => h9) rfl dX7_writes_5 ?_
  refine lv_iload_n hx hb dX7_writes_8 rfl (lv_at hl 1 rfl) ?_
  refine lv_i2b (v := (nI c9).toInt8.toInt32) hx hb dX7_writes_9 rfl ?_
  refine a_bast hx hb hK hP hD hS 1 2 rfl rfl (by omega) (by omega) dX7_writes_10 (fun H locs hP hD hS => ?_)
  have hP : va_P (dC, dI) vwCl [(o 0, .inr (2, mFs o th p0 q0 r0 mu (zP ln at_ er ea vs wn op_ bw bb bp uf wr_))), (o 10, .inl (dA 2, 1200, .inl (upd fO wr_ (vp_nar .byte ((nI c9).toInt8.toInt32)))))] H := hP
  have hD : va_D A [(o 0, .inr (2, mFs o th p0 q0 r0 mu (zP ln at_ er ea vs wn op_ bw bb bp uf wr_))), (o 10, .inl (dA 2, 1200, .inl (upd fO wr_ (vp_nar .byte ((nI c9).toInt8.toInt32)))))] := hD
  have e9 : (upd fO wr_ (vp_nar .byte ((nI c9).toInt8.toInt32)) : Nat → Int32) = (upd fO wr_ (sb_b c9)) := (by rw [pk_vb]; rfl)
  rw [e9] at hP hD; clear e9
  refine lv_aload_n hx hb dX7_writes_11 rfl (lv_at hl 0 rfl) ?_
  refine lv_dup hx hb dX7_writes_12 rfl ?_
  refine va_get (D := (dC, dI)) (ci := 2) (v := .int (nI wr_)) (C := RX7) (T := TX7) (N := 27) hx hb hts in_X7 hown hK hP 0 rfl rfl 26 (by decide) (hts _ q2032) (fun _ h9 => h9) rfl dX7_writes_13 ?_
  refine lv_iconst (v := nI 1) hx hb dX7_writes_16 (by decide) ?_
  refine lv_iadd hx hb dX7_writes_17 ?_
  refine e_i (y := nI (wr_ + 1)) (nI_add _ _) ?_
  refine va_put (D := (dC, dI)) (ci := 2) (v := .int (nI (wr_ + 1))) (ty := .int) (C := RX7) (T := TX7) (N := 27) hx hb hts in_X7 tyX7 tyX7_ok nmX7 hown hK hP hD hS 0 rfl rfl 26 (by decide) (hts _ q2032) (fun _ h9 => h9) rfl (by decide +kernel) rfl rfl (Nat.le_of_ble_eq_true rfl) dX7_writes_18 (fun H locs hP hD hS => ?_)
  have hP : va_P (dC, dI) vwCl [(o 0, .inr (2, mFs o th p0 q0 r0 mu (zP ln at_ er ea vs wn op_ bw bb bp uf (wr_ + 1)))), (o 10, .inl (dA 2, 1200, .inl (upd fO wr_ (sb_b c9))))] H := hP
  have hD : va_D A [(o 0, .inr (2, mFs o th p0 q0 r0 mu (zP ln at_ er ea vs wn op_ bw bb bp uf (wr_ + 1)))), (o 10, .inl (dA 2, 1200, .inl (upd fO wr_ (sb_b c9))))] := hD
  subst hQe
  exact W.vret hx hb hr (fun tz ht hW => ⟨⟨(), rfl, trivial, B1_at ht (hP.sub [0, 1] rfl) (hD.sub [0, 1] (by decide) rfl) trivial⟩, hS.F ht⟩) hS.2.2 dX7_writes_21
set_option maxHeartbeats 4000000 in
theorem x7_writesNumber {l : Launch} {dC : Nat → ClassId} {dI : Nat → Nat → Nat} {dA : Nat → ClassId} {s0 : State} {b0 : Addr} (Z : Z0 l dC dI dA s0 b0) (A : Nat → Prop) (sz : Nat) (hA : ∀ q : Nat, sz ≤ q → A q) (o : Nat → Nat) (th : Int32) (p0 q0 r0 : Nat) (mu : Int64) (ln at_ : Nat) (er ea : Int32) (vs wn op_ : Nat) (bw bb bp : Bool) (uf : Int32) (wr_ : Nat) (fO : Nat → Int32) (L : List Nat) (v : Nat) (hv1 : 1 ≤ v) (hv8 : v ≤ 100000000) (hn9 : L.length = wr_) (hw9 : wr_ + 9 ≤ 1200) (hO : OutH L fO) : Met l yX7_writesNumber (ws_ yX7_writesNumber cX7_writesNumber 5 none) ({ frames := 2, cells := 0, slots := 0, locals := 120 } : Room) (gP [.ref (o 0), .long (lN v)] s0 A (fun H => H.size = sz ∧ va_P (dC, dI) vwCl [(o 0, .inr (2, mFs o th p0 q0 r0 mu (zP ln at_ er ea vs wn op_ bw bb bp uf wr_))), (o 10, .inl (dA 2, 1200, .inl fO))] H ∧ va_D A [(o 0, .inr (2, mFs o th p0 q0 r0 mu (zP ln at_ er ea vs wn op_ bw bb bp uf wr_))), (o 10, .inl (dA 2, 1200, .inl fO))])) (va_Qv (S := Nat → Int32) (fun u => OutH (L ++ wrN v) u) (B1 (dC, dI) A (fun u => [(o 0, .inr (2, mFs o th p0 q0 r0 mu (zP ln at_ er ea vs wn op_ bw bb bp uf (wr_ + (wrN v).length)))), (o 10, .inl (dA 2, 1200, .inl u))]) (fun _ _ => True)) A) 0 0 A := by
  refine Met.ofW (cc := cX7_writesNumber) (maxL := 5) (ret := none) (by decide) rfl ?_
  intro p e s m args below meth c s₁ B hml hv
  obtain ⟨hav, hG, hsz, hP, hD⟩ := hv
  have hx := B.exec
  have hb := B.bytes
  have hr := B.returns
  have hts := atoms_spec (ws := (ws_ yX7_writesNumber cX7_writesNumber 5 none)) B.pre
  have hts : ∀ w ∈ lw_all, w.before _ s = true := fun w h => hts w (List.mem_cons_of_mem _ h)
  have hown : s.vm.findClass RX7 = some m.cls := findClass_of_methodNamed B.named
  have hlocks := B.notSynchronized
  have hK := hG.K Z
  subst hsz
  have hS : va_S A s.heap s.heap [] := va_S.rf
  have hl := lv_entry ([.ref (o 0), .long (lN v)]) (n := 5) (Nat.le_of_ble_eq_true rfl)
  rw [show entryFrame m args 5 = entryFrame m ([.ref (o 0), .long (lN v)] : List Value).toArray 5 from by rw [hav], lg_entry_eq]
  generalize (lg_sl ([.ref (o 0), .long (lN v)]) ++ List.replicate (5 - (lg_sl ([.ref (o 0), .long (lN v)])).length) Slot.unset).toArray = ls at hl ⊢
  have hl : lv_has ls 5 [(0, .ref (o 0)), (1, .long (lN v))] := hl
  generalize hQe : MQ below _ _ s _ _ _ = Q
  change W p l e ({ frames := 2, cells := 0, slots := 0, locals := 120 } : Room) s m args below meth c s.heap [] 0 0 Q (F0 m 0 ls [])
  have hv7 : v < 2 ^ 31 := by omega
  refine lv_lconst (v := 1) hx hb dX7_writesNumber_0 rfl ?_
  refine lv_lstore_n (lv' := [(3, .long 1), (0, .ref (o 0)), (1, .long (lN v))]) hx hb dX7_writesNumber_1 rfl hl (by decide) rfl (fun ls hl => ?_)
  have hl : lv_has ls 5 [(3, .long (lN (10 ^ 0))), (0, .ref (o 0)), (1, .long (lN v))] := by rw [show lN (10 ^ 0) = 1 from rfl]; exact hl
  have loop_1 : ∀ (n9_1 : Nat) (k : Nat) (H : Heap) (locs : List Loc) (ls : Array Slot), 10 - k < n9_1 → (10 ^ k ≤ v) → (k ≤ 9) → va_P (dC, dI) vwCl [(o 0, .inr (2, mFs o th p0 q0 r0 mu (zP ln at_ er ea vs wn op_ bw bb bp uf wr_))), (o 10, .inl (dA 2, 1200, .inl fO))] H → va_D A [(o 0, .inr (2, mFs o th p0 q0 r0 mu (zP ln at_ er ea vs wn op_ bw bb bp uf wr_))), (o 10, .inl (dA 2, 1200, .inl fO))] → va_S A s.heap H locs → lv_has ls 5 [(0, .ref (o 0)), (1, .long (lN v)), (3, .long (lN (10 ^ k)))] → W p l e ({ frames := 2, cells := 0, slots := 0, locals := 120 } : Room) s m args below meth c H locs 0 0 Q (F0 m 2 ls []) := by
    intro n9_1
    induction n9_1 with
    | zero => intro k H locs ls hm_1; exact absurd hm_1 (Nat.not_lt_zero _)
    | succ n9_1 ih_1 =>
      intro k H locs ls hm_1 hk9 hk8 hP hD hS hl
      have hkb := pw63 (k := k) (by omega)
      refine lv_lload_n hx hb dX7_writesNumber_2 rfl (lv_at hl 1 rfl) ?_
      refine lv_lload_n hx hb dX7_writesNumber_3 rfl (lv_at hl 2 rfl) ?_
      refine lv_ldiv hx hb dX7_writesNumber_4 (lN_nz (pw0 k) hkb) ?_
      refine e_l (y := lN (v / 10 ^ k)) (pk_lDiv (by omega) (pw0 k) hkb) ?_
      refine lv_ldc2 hx hb hown (hts _ q2517) dX7_writesNumber_5 ?_
      refine W.lcmp hx hb dX7_writesNumber_8 ?_
      refine lv_if_lt (tgt := 21) hx hb dX7_writesNumber_9 (by decide) (fun c_9 => ?_) (fun c_9 => ?_)
      · have c_9 : (lN (v / 10 ^ k)) < (10 : Int64) := (lg_cmp_lt _ _).mp c_9
        have hd9 := (pk_lLT (Nat.lt_of_le_of_lt (Nat.div_le_self _ _) (by omega)) (by decide : 10 < 2 ^ 63)).mp (show lN (v / 10 ^ k) < lN 10 from c_9)
        have hg9 := dg_of (by omega) hk9 hd9 hk8
        have hk6 := pw8 hk9 hv8
        have hP : va_P (dC, dI) vwCl [(o 0, .inr (2, mFs o th p0 q0 r0 mu (zP ln at_ er ea vs wn op_ bw bb bp uf (wr_ + 0)))), (o 10, .inl (dA 2, 1200, .inl fO))] H := hP
        have hD : va_D A [(o 0, .inr (2, mFs o th p0 q0 r0 mu (zP ln at_ er ea vs wn op_ bw bb bp uf (wr_ + 0)))), (o 10, .inl (dA 2, 1200, .inl fO))] := hD
        have hl : lv_has ls 5 [(0, .ref (o 0)), (1, .long (lN v)), (3, .long (lN (pwX k 0)))] := by rw [show lN (pwX k 0) = lN (10 ^ k) from rfl]; exact hl
        have loop_2 : ∀ (n9_2 : Nat) (i : Nat) (fB : Nat → Int32) (H : Heap) (locs : List Loc) (ls : Array Slot), k + 1 - i < n9_2 → (i ≤ k + 1) → (OutH (L ++ (List.range i).map (sb_dec v)) fB) → va_P (dC, dI) vwCl [(o 0, .inr (2, mFs o th p0 q0 r0 mu (zP ln at_ er ea vs wn op_ bw bb bp uf (wr_ + i)))), (o 10, .inl (dA 2, 1200, .inl fB))] H → va_D A [(o 0, .inr (2, mFs o th p0 q0 r0 mu (zP ln at_ er ea vs wn op_ bw bb bp uf (wr_ + i)))), (o 10, .inl (dA 2, 1200, .inl fB))] → va_S A s.heap H locs → lv_has ls 5 [(0, .ref (o 0)), (1, .long (lN v)), (3, .long (lN (pwX k i)))] → W p l e ({ frames := 2, cells := 0, slots := 0, locals := 120 } : Room) s m args below meth c H locs 0 0 Q (F0 m 21 ls []) := by
          intro n9_2
          induction n9_2 with
          | zero => intro i fB H locs ls hm_2; exact absurd hm_2 (Nat.not_lt_zero _)
          | succ n9_2 ih_2 =>
            intro i fB H locs ls hm_2 hi9 hO9 hP hD hS hl
            refine lv_lload_n hx hb dX7_writesNumber_21 rfl (lv_at hl 2 rfl) ?_
            refine lv_lconst (v := 0) hx hb dX7_writesNumber_22 rfl ?_
            refine W.lcmp hx hb dX7_writesNumber_23 ?_
            refine lv_if_le (tgt := 52) hx hb dX7_writesNumber_24 (by decide) (fun c_24 => ?_) (fun c_24 => ?_)
            · have c_24 : (lN (pwX k i)) ≤ 0 := (lg_cmp_le _ _).mp c_24
              obtain rfl : i = k + 1 := pwX_0 hi9 hk8 c_24
              subst hQe
              exact W.vret hx hb hr (fun tz ht hW => ⟨⟨fB, rfl, (by unfold wrN; rw [hg9]; exact hO9), B1_at ht (by rw [wrN_len, hg9]; exact hP.sub [0, 1] rfl) (by rw [wrN_len, hg9]; exact hD.sub [0, 1] (by decide) rfl) trivial⟩, hS.F ht⟩) hS.2.2 dX7_writesNumber_52
            · have c_24 : ¬ (lN (pwX k i)) ≤ 0 := fun h => c_24 ((lg_cmp_le _ _).mpr h)
              have hi8 : i ≤ k := pwX_p hi9 c_24
              have hx9 := pwX_eq hi8
              have hx8 : 0 < pwX k i := by rw [hx9]; exact pw0 _
              have hx7 : pwX k i < 2 ^ 63 := by rw [hx9]; exact pw63 (by omega)
              have hn8 : (L ++ (List.range i).map (sb_dec v)).length = wr_ + i := by rw [List.length_append, List.length_map, List.length_range, hn9]
              refine lv_aload_n hx hb dX7_writesNumber_27 rfl (lv_at hl 0 rfl) ?_
              refine lv_ldc2 hx hb hown (hts _ q2518) dX7_writesNumber_28 ?_
              refine lv_lload_n hx hb dX7_writesNumber_31 rfl (lv_at hl 1 rfl) ?_
              refine lv_lload_n hx hb dX7_writesNumber_32 rfl (lv_at hl 2 rfl) ?_
              refine lv_ldiv hx hb dX7_writesNumber_33 (lN_nz hx8 hx7) ?_
              refine e_l (y := lN (v / pwX k i)) (pk_lDiv (by omega) hx8 hx7) ?_
              refine lv_ldc2 hx hb hown (hts _ q2517) dX7_writesNumber_34 ?_
              refine lv_lrem hx hb dX7_writesNumber_37 (by decide) ?_
              refine e_l (y := lN (v / pwX k i % 10)) (pk_lRem (b := 10) (Nat.lt_of_le_of_lt (Nat.div_le_self _ _) (by omega)) (by decide) (by decide)) ?_
              refine lv_ladd hx hb dX7_writesNumber_38 ?_
              refine e_l (y := lN (48 + v / pwX k i % 10)) (lN_add 48 _) ?_
              refine lv_l2i (v := (lN (48 + v / pwX k i % 10)).toInt32) hx hb dX7_writesNumber_39 rfl ?_
              refine e_i (y := nI (48 + v / pwX k i % 10)) (lN_i _) ?_
              refine e_i (y := nI (sb_dec v i)) (n_eq (by unfold sb_dec; rw [hg9, show k + 1 - 1 - i = k - i by omega, hx9])) ?_
              have hF9 := va_free (wc := [(o 0, .inr (2, mFs o th p0 q0 r0 mu (zP ln at_ er ea vs wn op_ bw bb bp uf (wr_ + i)))), (o 10, .inl (dA 2, 1200, .inl fB))]) hD hS (fun q h => hA q h) [0, 1] rfl
              refine c_v (wr := []) (va_runV (As := [.int (nI (sb_dec v i))]) (rest := []) ⟨hx, hb, hml, hown, hts⟩ (x7_writes Z (va_A [(o 0, .inr (2, mFs o th p0 q0 r0 mu (zP ln at_ er ea vs wn op_ bw bb bp uf (wr_ + i)))), (o 10, .inl (dA 2, 1200, .inl fB))] H.size) H.size (fun q h => Or.inr h) o th p0 q0 r0 mu ln at_ er ea vs wn op_ bw bb bp uf (wr_ + i) fB (sb_dec v i) (by omega)) (cwV 1 hts (lw_V q2505 q2507 qs92 q107 q2508) rfl rfl rfl (by decide +kernel) ⟨Nat.le_of_ble_eq_true rfl, Nat.le_of_ble_eq_true rfl⟩) (gP_V (va_recv hK hP (ci := 2) (q0 := 0) rfl rfl) hG hS (fun q _ h => hF9 q h) ⟨rfl, (hP.sub (ws' := [(o 0, .inr (2, mFs o th p0 q0 r0 mu (zP ln at_ er ea vs wn op_ bw bb bp uf (wr_ + i)))), (o 10, .inl (dA 2, 1200, .inl fB))]) [0, 1] rfl), (hD.sub (ws' := [(o 0, .inr (2, mFs o th p0 q0 r0 mu (zP ln at_ er ea vs wn op_ bw bb bp uf (wr_ + i)))), (o 10, .inl (dA 2, 1200, .inl fB))]) [0, 1] (by decide) rfl).self⟩) rfl rfl hl.1 rfl (lv_room (Nat.le_of_ble_eq_true rfl)) dX7_writesNumber_40 ⟨by first | decide | omega, by first | decide | omega⟩) hP hD hS hA [0, 1] [] rfl rfl (by decide) (by decide) (fun u9 H locs hq hX hz hk hP hD hS => ?_)
              have hP : va_P (dC, dI) vwCl [(o 0, .inr (2, mFs o th p0 q0 r0 mu (zP ln at_ er ea vs wn op_ bw bb bp uf (wr_ + i + 1)))), (o 10, .inl (dA 2, 1200, .inl (upd fB (wr_ + i) (sb_b (sb_dec v i)))))] H := hP
              have hD : va_D A [(o 0, .inr (2, mFs o th p0 q0 r0 mu (zP ln at_ er ea vs wn op_ bw bb bp uf (wr_ + i + 1)))), (o 10, .inl (dA 2, 1200, .inl (upd fB (wr_ + i) (sb_b (sb_dec v i)))))] := hD
              have hO_4 := OutH.add (c := sb_dec v i) hO9 hn8
              generalize upd fB (wr_ + i) (sb_b (sb_dec v i)) = fO_3 at hP hD hO_4
              have hn_5 : ((L ++ (List.range i).map (sb_dec v)) ++ [sb_dec v i]).length = wr_ + i + 1 := by rw [List.length_append, hn8]; rfl
              refine lv_lload_n hx hb dX7_writesNumber_43 rfl (lv_at hl 2 rfl) ?_
              refine lv_ldc2 hx hb hown (hts _ q2517) dX7_writesNumber_44 ?_
              refine lv_ldiv hx hb dX7_writesNumber_47 (by decide) ?_
              refine e_l (y := lN (pwX k (i + 1))) ((pk_lDiv (b := 10) hx7 (by decide) (by decide))) ?_
              refine lv_lstore_n (lv' := [(3, .long (lN (pwX k (i + 1)))), (0, .ref (o 0)), (1, .long (lN v))]) hx hb dX7_writesNumber_48 rfl hl (by decide) rfl (fun ls hl => ?_)
              refine lv_goto (tgt := 21) hx hb dX7_writesNumber_49 (by decide) ?_
              exact ih_2 (i + 1) fO_3 H locs ls (by omega) (by omega) (by rw [wrN_s, ← List.append_assoc]; exact hO_4) (hP.sub [0, 1] rfl) (hD.sub [0, 1] (by decide) rfl) hS (lv_sub hl [1, 2, 0] rfl)
        exact loop_2 _ 0 fO H locs ls (Nat.lt_succ_self _) (by omega) (by simpa using hO) hP hD hS (lv_sub hl [0, 1, 2] rfl)
      · have c_9 : ¬ (lN (v / 10 ^ k)) < (10 : Int64) := fun h => c_9 ((lg_cmp_lt _ _).mpr h)
        have hd9 : 10 ≤ v / 10 ^ k := Nat.not_lt.mp (fun h => c_9 ((pk_lLT (Nat.lt_of_le_of_lt (Nat.div_le_self _ _) (by omega)) (by decide : 10 < 2 ^ 63)).mpr h))
        have hk7 := pw_up hd9
        refine lv_lload_n hx hb dX7_writesNumber_12 rfl (lv_at hl 2 rfl) ?_
        refine lv_ldc2 hx hb hown (hts _ q2517) dX7_writesNumber_13 ?_
        refine lv_lmul hx hb dX7_writesNumber_16 ?_
        refine e_l (y := lN (10 ^ (k + 1))) ((by rw [Nat.pow_succ]; exact lN_mul _ 10)) ?_
        refine lv_lstore_n (lv' := [(3, .long (lN (10 ^ (k + 1)))), (0, .ref (o 0)), (1, .long (lN v))]) hx hb dX7_writesNumber_17 rfl hl (by decide) rfl (fun ls hl => ?_)
        refine lv_goto (tgt := 2) hx hb dX7_writesNumber_18 (by decide) ?_
        exact ih_1 (k + 1) H locs ls ((by have := pw9 hk7 hv8; omega)) hk7 (by have := pw9 hk7 hv8; omega) (hP.sub [0, 1] rfl) (hD.sub [0, 1] (by decide) rfl) hS (lv_sub hl [1, 2, 0] rfl)
  exact loop_1 _ 0 s.heap [] ls (Nat.lt_succ_self _) (by simpa using hv1) (by omega) hP hD hS (lv_sub hl [1, 2, 0] rfl)
