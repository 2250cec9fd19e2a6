def NM (D : va_G) (dA : Nat → ClassId) (σ m r : Nat → Nat) (Ms : Nat → MV) (sz : Nat) (u : Nat × Nat × MV) (H : Heap) : Prop := va_P D vwCl (MA dA u.1 u.2.1 u.2.2) H ∧ ((sz ≤ u.1 ∧ sz ≤ u.2.1) ∨ (∃ k, k < 8 ∧ u = (m k, r k, Ms k)) ∨ u = (σ 1, σ 2, numM 0))
theorem fresh_of {A : Nat → Prop} {a0 sz q : Nat} {ws : va_W} {e0 e : va_E} (hD : va_D A ws) (hAf : ∀ q, A q → q = a0 ∨ sz ≤ q) (i0 i : Nat) (h0 : ws[i0]? = some (a0, e0)) (h : ws[i]? = some (q, e)) (hne : i0 ≠ i) : sz ≤ q := by
  rcases hAf q (hD.2 i _ h) with c | c
  · exact absurd (hD.1 i0 i _ _ h0 h c.symm) hne
  · exact c
section SPX
variable {p q r : Nat} {Ms : Nat → MV}
theorem rg_t {j : Nat} (h : j < 8) : rgB (nI j) = true := inB_r (by decide) (by omega)
theorem clp {j : Nat} (h : j < 2 ^ 31) : (nI j).toNatClampNeg = j := nI_clamp h
theorem cmb_1 {op t a b : Int32} (h : inB op (nI 0) (nI 8) = false) : cmbX p q r Ms op t a b = (nI 1, none) := if_pos h
theorem cmb_2 {op t a b : Int32} (h : inB op (nI 0) (nI 8) = true) (h2 : (rgB t && rgB a && rgB b) = false) : cmbX p q r Ms op t a b = (nI 2, none) := by
  unfold cmbX; rw [h, h2]; rfl
theorem cmb_e {jo jt ja jb : Nat} (ho : jo ≤ 8) (ht : jt < 8) (ha : ja < 8) (hb : jb < 8) : cmbX p q r Ms (nI jo) (nI jt) (nI ja) (nI jb) = optC (nI 3) (cmbS jo p q r (Ms ja) (Ms jb)) := by
  unfold cmbX; rw [inB_r (by decide) ho, rg_t ht, rg_t ha, rg_t hb, rg_n ha, rg_n hb, clp (by omega)]; rfl
theorem cmb_3 {jo jt ja jb : Nat} (ho : jo ≤ 8) (ht : jt < 8) (ha : ja < 8) (hb : jb < 8) (e : cmbS jo p q r (Ms ja) (Ms jb) = none) : cmbX p q r Ms (nI jo) (nI jt) (nI ja) (nI jb) = (nI 3, none) := by
  rw [cmb_e ho ht ha hb, e]; rfl
theorem cmb_ok {jo jt ja jb : Nat} {M : MV} (ho : jo ≤ 8) (ht : jt < 8) (ha : ja < 8) (hb : jb < 8) (e : cmbS jo p q r (Ms ja) (Ms jb) = some M) : cmbX p q r Ms (nI jo) (nI jt) (nI ja) (nI jb) = (nI 0, some M) := by
  rw [cmb_e ho ht ha hb, e]; rfl
theorem chg_1 {op t a : Int32} (h : inB op (nI 0) (nI 9) = false) : chgX p q r Ms op t a = (nI 1, none) := if_pos h
theorem chg_2 {op t a : Int32} (h : inB op (nI 0) (nI 9) = true) (h2 : (rgB t && rgB a) = false) : chgX p q r Ms op t a = (nI 2, none) := by
  unfold chgX; rw [h, h2]; rfl
theorem chg_e {jo jt ja : Nat} (ho : jo ≤ 9) (ht : jt < 8) (ha : ja < 8) : chgX p q r Ms (nI jo) (nI jt) (nI ja) = oneS jo p q r (Ms ja) := by
  unfold chgX; rw [inB_r (by decide) ho, rg_t ht, rg_t ha, rg_n ha, clp (by omega)]; rfl
theorem grd_1 {t a g : Int32} (h2 : (rgB t && rgB a) = false) : grdX p q r Ms t a g = (nI 1, none) := if_pos h2
theorem grd_2 {jt ja : Nat} {g : Int32} (ht : jt < 8) (ha : ja < 8) (h : inB g (nI 0) (nI (p + q + r)) = false) : grdX p q r Ms (nI jt) (nI ja) g = (nI 2, none) := by
  unfold grdX; rw [rg_t ht, rg_t ha, h]; rfl
theorem grd_ok {jt ja jg : Nat} (ht : jt < 8) (ha : ja < 8) (hg : jg ≤ p + q + r) (hn : p + q + r ≤ 5) : grdX p q r Ms (nI jt) (nI ja) (nI jg) = (nI 0, some (redS (Ms ja 0) (grdR (2 ^ (p + q + r)) jg (Ms ja)))) := by
  unfold grdX; rw [rg_t ht, rg_t ha, inB_r (by omega) hg, rg_n ha, clp (by omega)]; rfl
theorem sgd_grd {M : MV} {g : Nat} (pM : MSp (2 ^ (p + q + r)) M) {j : Nat} (hj : j < 32) : sgdF 0 (2 ^ g) M j = grdR (2 ^ (p + q + r)) g M j := by
  unfold sgdF grdR
  have hb : 2 ^ g / 2 ^ popc j &&& 1 = 1 ↔ popc j = g := by
    rw [bitT]
    by_cases e : popc j = g
    · rw [e, Nat.testBit_two_pow_self]; simp
    · rw [Nat.testBit_two_pow_of_ne (Ne.symm e)]; simp [e]
  have h0 : ¬ 0 / 2 ^ popc j &&& 1 = 1 := by rw [Nat.zero_div]; decide
  by_cases e : popc j = g
  · have h1 := hb.mpr e
    rw [if_neg (by omega), if_neg h0]
    by_cases hw : j < 2 ^ (p + q + r)
    · rw [if_pos ⟨hw, e⟩]
    · rw [if_neg (fun c => hw c.1), pM j (by omega) hj]
  · have h1 : 2 ^ g / 2 ^ popc j &&& 1 = 0 := by
      have h2 : ¬ 2 ^ g / 2 ^ popc j &&& 1 = 1 := fun c => e (hb.mp c)
      have := @Nat.and_one_is_mod (2 ^ g / 2 ^ popc j)
      omega
    rw [if_pos h1, if_neg (fun c => e c.2)]
theorem grd_sm {W g : Nat} {M : MV} (sM : MSm M) : MSm (redS (M 0) (grdR W g M)) := red_small sM.1 (fit_small sM.1 sM.2.1 (fun j hj => grdR_bd sM hj))
theorem scl_1 {t a x y : Int32} (h2 : (rgB t && rgB a) = false) : sclX Ms t a x y = (nI 1, none) := if_pos h2
theorem scl_2 {jt ja : Nat} {x y : Int32} (ht : jt < 8) (ha : ja < 8) (h : (inB x (-10000) (nI 10000) && inB y (nI 1) (nI 10000)) = false) : sclX Ms (nI jt) (nI ja) x y = (nI 2, none) := by
  unfold sclX; rw [rg_t ht, rg_t ha, h]; rfl
theorem scl_e {jt ja : Nat} {x y : Int32} (ht : jt < 8) (ha : ja < 8) (hx : inB x (-10000) (nI 10000) = true) (hy : inB y (nI 1) (nI 10000) = true) : sclX Ms (nI jt) (nI ja) x y = optC (nI 3) (scaS x.toInt64 y.toInt64 (Ms ja)) := by
  unfold sclX; rw [rg_t ht, rg_t ha, hx, hy, rg_n ha]; rfl
theorem scl_3 {jt ja : Nat} {x y : Int32} (ht : jt < 8) (ha : ja < 8) (hx : inB x (-10000) (nI 10000) = true) (hy : inB y (nI 1) (nI 10000) = true) (e : scaS x.toInt64 y.toInt64 (Ms ja) = none) : sclX Ms (nI jt) (nI ja) x y = (nI 3, none) := by
  rw [scl_e ht ha hx hy, e]; rfl
theorem scl_ok {jt ja : Nat} {x y : Int32} {M : MV} (ht : jt < 8) (ha : ja < 8) (hx : inB x (-10000) (nI 10000) = true) (hy : inB y (nI 1) (nI 10000) = true) (e : scaS x.toInt64 y.toInt64 (Ms ja) = some M) : sclX Ms (nI jt) (nI ja) x y = (nI 0, some M) := by
  rw [scl_e ht ha hx hy, e]; rfl
theorem inB_i {x lo hi : Int32} (h : inB x lo hi = true) : lo.toInt ≤ x.toInt ∧ x.toInt ≤ hi.toInt := by
  unfold inB at h
  rw [Bool.and_eq_true] at h
  exact ⟨Int32.le_iff_toInt_le.mp (of_decide_eq_true h.1), Int32.le_iff_toInt_le.mp (of_decide_eq_true h.2)⟩
theorem sm_of {x lo hi : Int32} (h : inB x lo hi = true) (h1 : -100000000 ≤ lo.toInt) (h2 : hi.toInt ≤ 100000000) : sm8 x.toInt64 := by
  have := inB_i h
  unfold sm8; rw [i2l_toInt]; omega
theorem nz_of {x hi : Int32} (h : inB x (nI 1) hi = true) : x.toInt64 ≠ 0 := by
  intro c
  have h1 := (inB_i h).1
  have h2 := congrArg Int64.toInt c
  rw [i2l_toInt] at h2
  have h3 : (nI 1).toInt = 1 := rfl
  have h4 : (0 : Int64).toInt = 0 := rfl
  omega
end SPX
theorem nc_IllegalStateException_Unfit : (Cond.not (.castable "java/lang/IllegalStateException" "BladeAlgebra$Unfit")) ∈ flatC (Jvm.Cond.and given_1 narrow_1) := by decide +kernel
set_option maxHeartbeats 4000000 in
theorem x1_combine {l : Launch} {dC : Nat → ClassId} {dI : Nat → Nat → Nat} {dA : Nat → ClassId} {s0 : State} {b0 : Addr} (Z : Z0 l dC dI dA s0 b0) (A : Nat → Prop) (sz : Nat) (hA : ∀ q : Nat, sz ≤ q → A q) {σ : Nat → Nat} (Y : SS (dC, dI) dA σ s0) (xa : Nat → Nat) (tl : Nat) (ec ep : Int32) (ga sg : Nat) (sr : Nat → Nat) (p0 q0 r0 : Nat) (rm rr : Nat → Nat) (Ms : Nat → MV) (xop t a b : Int32) (sR : ∀ k, k < 8 → MSm (Ms k)) (pR : ∀ k, k < 8 → MSp (2 ^ (p0 + q0 + r0)) (Ms k)) (hAf : ∀ q, A q → q = xa 7 ∨ sz ≤ q) : vx_Met l yX1_combine (wsW_ yX1_combine cX1_combine 6 (some .int) [((36 : Nat), (76 : Nat), (77 : Nat), (179 : Nat))]) ({ frames := 10, cells := 14, slots := 200, locals := 600 } : Room) (gP [.ref (xa 0), .int xop, .int t, .int a, .int b] s0 A (fun H => H.size = sz ∧ va_P (dC, dI) vwCl [((xa 7), .inl (dA 4, 8, .inr (.inr (.inr (.inr (fun k => some (rm k)))))))] H ∧ va_D A [((xa 7), .inl (dA 4, 8, .inr (.inr (.inr (.inr (fun k => some (rm k)))))))] ∧ RO A (dC, dI) [((xa 0), .inr (3, xFs xa tl ec ep)), ((xa 3), .inr (4, [.ref ga, .ref (xa 7)]))] H ∧ RO A (dC, dI) [((xa 1), .inl (dA 6, 9, .inr (.inr (.inr (.inr (fun k => some (σ (20 + k))))))))] H ∧ AG A (dC, dI) dA ga sg sr p0 q0 r0 H ∧ RG A (dC, dI) dA rm rr Ms H)) (va_Qi (S := Nat × Nat × MV) (fun r9 u => cmbX p0 q0 r0 Ms xop t a b = (nI 0, some u.2.2) ∧ r9 = nI (trmS u.2.2)) (B1 (dC, dI) A (fun u => [(xa 7, .inl (dA 4, 8, .inr (.inr (.inr (.inr (va_up (fun k => some (rm k)) (rg t) (some u.1)))))))]) (fun u H => NM (dC, dI) dA σ rm rr Ms sz u H)) A) (vx_X (S := Unit) (fun _ => True) (fun _ E _ t9 => ((E = "java/lang/IllegalArgumentException" ∧ cmbX p0 q0 r0 Ms xop t a b = (nI 1, none)) ∨ (E = "java/lang/IndexOutOfBoundsException" ∧ cmbX p0 q0 r0 Ms xop t a b = (nI 2, none)) ∨ (E = "java/lang/ArithmeticException" ∧ cmbX p0 q0 r0 Ms xop t a b = (nI 3, none))) ∧ va_P (dC, dI) vwCl [((xa 7), .inl (dA 4, 8, .inr (.inr (.inr (.inr (fun k => some (rm k)))))))] t9.heap) A) 14 200 A := by
  refine vx_ofWH (cc := cX1_combine) (maxL := 6) (ret := (some .int)) (by decide) rfl ?_
  intro p e s m args below meth c s₁ B hml hv
  obtain ⟨hav, hG, hsz, hP, hD, hR0, hR1, hAG, hRG⟩ := hv
  have hx := B.exec
  have hb := B.bytes
  have hr := B.returns
  have hts := atoms_spec (ws := (wsW_ yX1_combine cX1_combine 6 (some .int) [((36 : Nat), (76 : Nat), (77 : Nat), (179 : Nat))])) B.pre
  have hxt : c.exceptionTable.toList = [⟨36, 76, 77, 179⟩] := vx_table (x := yX1_combine) (y := yX1_combine) B (hts _ List.mem_cons_self)
  have hts : ∀ w ∈ lw_all, w.before _ s = true := fun w h => hts w (List.mem_cons_of_mem _ h)
  have hown : s.vm.findClass RX1 = some m.cls := findClass_of_methodNamed B.named
  have hlocks := B.notSynchronized
  have hK := hG.K Z
  subst hsz
  have hS : va_S A s.heap s.heap [] := va_S.rf
  have hl := lv_entry ([.ref (xa 0), .int xop, .int t, .int a, .int b]) (n := 6) (Nat.le_of_ble_eq_true rfl)
  rw [show entryFrame m args 6 = entryFrame m ([.ref (xa 0), .int xop, .int t, .int a, .int b] : List Value).toArray 6 from by rw [hav], lg_entry_eq]
  generalize (lg_sl ([.ref (xa 0), .int xop, .int t, .int a, .int b]) ++ List.replicate (6 - (lg_sl ([.ref (xa 0), .int xop, .int t, .int a, .int b])).length) Slot.unset).toArray = ls at hl ⊢
  have hl : lv_has ls 6 [(0, .ref (xa 0)), (1, .int xop), (2, .int t), (3, .int a), (4, .int b)] := hl
  generalize hQe : vx_MQ below _ _ _ s _ _ _ = Q
  change W p l e ({ frames := 10, cells := 14, slots := 200, locals := 600 } : Room) s m args below meth c s.heap [] 0 0 Q (F0 m 0 ls [])
  have hn := hAG.1
  have h5 := pow5 hn
  have hR2 := hAG.2.1
  refine lv_iload_n hx hb dX1_combine_0 rfl (lv_at hl 1 rfl) ?_
  refine lv_i2l (v := xop.toInt64) hx hb dX1_combine_1 rfl ?_
  refine lv_lconst (v := 0) hx hb dX1_combine_2 rfl ?_
  refine lv_aload_n hx hb dX1_combine_3 rfl (lv_at hl 0 rfl) ?_
  refine va_get (D := (dC, dI)) (ci := 3) (v := .ref (xa 1)) (C := RX1) (T := TX1) (N := 9) hx hb hts in_X1 hown hK (hR0.up hS) 0 rfl rfl 0 (by decide) (hts _ q284) (fun _ h9 => h9) rfl dX1_combine_4 ?_
  refine va_alen (v := nI 9) hx hb hK (hR1.up hS) 0 6 rfl rfl rfl dX1_combine_7 ?_
  refine lv_iconst (v := nI 1) hx hb dX1_combine_8 (by decide) ?_
  refine lv_isub hx hb dX1_combine_9 ?_
  refine e_i (y := nI 8) (pk_sub (by omega)) ?_
  refine lv_i2l (v := (nI 8).toInt64) hx hb dX1_combine_10 rfl ?_
  refine s_i (va_runS (As := [.long xop.toInt64, .long 0, .long ((nI 8).toInt64)]) (rest := []) ⟨hx, hb, hml, hown, hts⟩ (x1_isIn Z xop.toInt64 0 ((nI 8).toInt64)) (va_cwS 3 hts (lw_S q332 q333 q96 q334) rfl rfl rfl (by decide +kernel) ⟨Nat.le_of_ble_eq_true rfl, Nat.le_of_ble_eq_true rfl⟩) (gP_S hG hS (fun q _ h => h.elim) trivial) rfl rfl hl.1 rfl (lv_room (Nat.le_of_ble_eq_true rfl)) dX1_combine_11 ⟨by first | decide | omega | (show _ ≤ (14 : Nat); omega), by first | decide | omega | (show _ ≤ (200 : Nat); omega)⟩) ?_
  refine e_i (y := bI (inB xop (nI 0) (nI 8))) (congrArg bI (inL_B xop (nI 0) (nI 8))) ?_
  have hF9 := va_free (wc := []) hD hS (fun q h => hA q h) [] rfl
  refine x_v (wc := []) (wr := [((xa 7), .inl (dA 4, 8, .inr (.inr (.inr (.inr (fun k => some (rm k)))))))]) (vx_runS (As := [.int (bI (inB xop (nI 0) (nI 8)))]) (rest := []) ⟨hx, hb, hml, hown, hts⟩ (x1_argument Z (va_A [] s.heap.size) s.heap.size (fun q h => Or.inr h) (SS.st Y) (σ 51) (SS.st1 Y) (inB xop (nI 0) (nI 8))) (va_cwS 1 hts (lw_S q335 q336 q96 q337) rfl rfl rfl (by decide +kernel) ⟨Nat.le_of_ble_eq_true rfl, Nat.le_of_ble_eq_true rfl⟩) (gP_S hG hS (fun q _ h => hF9 q h) rfl) rfl rfl hl.1 rfl (lv_room (Nat.le_of_ble_eq_true rfl)) dX1_combine_14 ⟨by first | decide | omega | (show _ ≤ (14 : Nat); omega), by first | decide | omega | (show _ ≤ (200 : Nat); omega)⟩) hP hD hS hA [] [0] rfl rfl (by decide) (by decide) (fun E ce q9 u9 t9 H locs ht9 hp9 hb9 hz hP hS h1 h2 h3 => ?_) (fun u9 H locs hq hX hz hk hP hD hS => ?_)
  · have hD := hD.sub (ws' := [((xa 7), .inl (dA 4, 8, .inr (.inr (.inr (.inr (fun k => some (rm k)))))))]) [0] (by decide) rfl
    have hP : va_P (dC, dI) vwCl [((xa 7), .inl (dA 4, 8, .inr (.inr (.inr (.inr (fun k => some (rm k)))))))] H := hP
    have hD : va_D A [((xa 7), .inl (dA 4, 8, .inr (.inr (.inr (.inr (fun k => some (rm k)))))))] := hD
    subst hb9
    subst hQe
    exact vx_outP hown hlocks (by rw [hxt]; exact (List.forall_mem_cons.mpr ⟨Or.inl (by decide), (fun _ h => nomatch h)⟩)) h1 h2 h3 (fun t10 e10 _ => ⟨(), trivial, (⟨Or.inl (⟨rfl, cmb_1 hp9⟩), by rw [e10]; exact hP.sub (ws' := [((xa 7), .inl (dA 4, 8, .inr (.inr (.inr (.inr (fun k => some (rm k)))))))]) [0] rfl⟩ : (_ ∧ _)), hS.F e10⟩) hS.2.2 (by first | decide | omega) (by first | decide | omega)
  have hg14 : (inB xop (nI 0) (nI 8)) = true := hq
  clear hq
  have hP : va_P (dC, dI) vwCl [((xa 7), .inl (dA 4, 8, .inr (.inr (.inr (.inr (fun k => some (rm k)))))))] H := hP
  have hD : va_D A [((xa 7), .inl (dA 4, 8, .inr (.inr (.inr (.inr (fun k => some (rm k)))))))] := hD
  refine lv_iconst (v := nI 3) hx hb dX1_combine_17 (by decide) ?_
  refine a_newa (D := (dC, dI)) (atype := .int) (N' := 3) (a0 := (3, .inl (fun _ => 0))) hx hb (hts _ q230) rfl hK hP hD hS hA 0 rfl (fun _ => ra_int) (fun _ => rfl) (by decide) (by decide) (by decide) (by first | decide | omega) (by first | decide | omega) dX1_combine_18 (fun na_1 H locs hP hD hS => ?_)
  have hP : va_P (dC, dI) vwCl [((xa 7), .inl (dA 4, 8, .inr (.inr (.inr (.inr (fun k => some (rm k))))))), (na_1, .inl (dA 0, 3, .inl (fun _ => 0)))] H := hP
  have hD : va_D A [((xa 7), .inl (dA 4, 8, .inr (.inr (.inr (.inr (fun k => some (rm k))))))), (na_1, .inl (dA 0, 3, .inl (fun _ => 0)))] := hD
  refine lv_dup hx hb dX1_combine_20 rfl ?_
  refine lv_iconst (v := nI 0) hx hb dX1_combine_21 (by decide) ?_
  refine lv_iload_n hx hb dX1_combine_22 rfl (lv_at hl 2 rfl) ?_
  refine a_iast hx hb hK hP hD hS 1 0 rfl rfl (by omega) (by omega) dX1_combine_23 (fun H locs hP hD hS => ?_)
  have hP : va_P (dC, dI) vwCl [((xa 7), .inl (dA 4, 8, .inr (.inr (.inr (.inr (fun k => some (rm k))))))), (na_1, .inl (dA 0, 3, .inl (upd (fun _ => 0) 0 t)))] H := hP
  have hD : va_D A [((xa 7), .inl (dA 4, 8, .inr (.inr (.inr (.inr (fun k => some (rm k))))))), (na_1, .inl (dA 0, 3, .inl (upd (fun _ => 0) 0 t)))] := hD
  refine lv_dup hx hb dX1_combine_24 rfl ?_
  refine lv_iconst (v := nI 1) hx hb dX1_combine_25 (by decide) ?_
  refine lv_iload_n hx hb dX1_combine_26 rfl (lv_at hl 3 rfl) ?_
  refine a_iast hx hb hK hP hD hS 1 0 rfl rfl (by omega) (by omega) dX1_combine_27 (fun H locs hP hD hS => ?_)
  have hP : va_P (dC, dI) vwCl [((xa 7), .inl (dA 4, 8, .inr (.inr (.inr (.inr (fun k => some (rm k))))))), (na_1, .inl (dA 0, 3, .inl (upd (upd (fun _ => 0) 0 t) 1 a)))] H := hP
  have hD : va_D A [((xa 7), .inl (dA 4, 8, .inr (.inr (.inr (.inr (fun k => some (rm k))))))), (na_1, .inl (dA 0, 3, .inl (upd (upd (fun _ => 0) 0 t) 1 a)))] := hD
  refine lv_dup hx hb dX1_combine_28 rfl ?_
  refine lv_iconst (v := nI 2) hx hb dX1_combine_29 (by decide) ?_
  refine lv_iload hx hb dX1_combine_30 (lv_at hl 4 rfl) ?_
  refine a_iast hx hb hK hP hD hS 1 0 rfl rfl (by omega) (by omega) dX1_combine_32 (fun H locs hP hD hS => ?_)
  have hP : va_P (dC, dI) vwCl [((xa 7), .inl (dA 4, 8, .inr (.inr (.inr (.inr (fun k => some (rm k))))))), (na_1, .inl (dA 0, 3, .inl (upd (upd (upd (fun _ => 0) 0 t) 1 a) 2 b)))] H := hP
  have hD : va_D A [((xa 7), .inl (dA 4, 8, .inr (.inr (.inr (.inr (fun k => some (rm k))))))), (na_1, .inl (dA 0, 3, .inl (upd (upd (upd (fun _ => 0) 0 t) 1 a) 2 b)))] := hD
  have hF9 := va_free (wc := []) hD hS (fun q h => hA q h) [] rfl
  refine x_v (wc := []) (wr := [((xa 7), .inl (dA 4, 8, .inr (.inr (.inr (.inr (fun k => some (rm k))))))), (na_1, .inl (dA 0, 3, .inl (upd (upd (upd (fun _ => 0) 0 t) 1 a) 2 b)))]) (vx_runS (As := [.ref na_1]) (rest := []) ⟨hx, hb, hml, hown, hts⟩ (x1_registers Z (va_A [] H.size) H.size (fun q h => Or.inr h) Y na_1 3 (upd (upd (upd (fun _ => 0) 0 t) 1 a) 2 b) (by decide)) (va_cwS 1 hts (lw_S q469 q470 q96 q471) rfl rfl rfl (by decide +kernel) ⟨Nat.le_of_ble_eq_true rfl, Nat.le_of_ble_eq_true rfl⟩) (gP_S hG hS (fun q _ h => hF9 q h) ⟨rfl, (RO.beside (wr := [(na_1, .inl (dA 0, 3, .inl (upd (upd (upd (fun _ => 0) 0 t) 1 a) 2 b)))]) hP hD [] [1] rfl rfl (by decide))⟩) rfl rfl hl.1 rfl (lv_room (Nat.le_of_ble_eq_true rfl)) dX1_combine_33 ⟨by first | decide | omega | (show _ ≤ (14 : Nat); omega), by first | decide | omega | (show _ ≤ (200 : Nat); omega)⟩) hP hD hS hA [] [0, 1] rfl rfl (by decide) (by decide) (fun E ce q9 u9 t9 H locs ht9 hp9 hb9 hz hP hS h1 h2 h3 => ?_) (fun u9 H locs hq hX hz hk hP hD hS => ?_)
  · have hD := hD.sub (ws' := [((xa 7), .inl (dA 4, 8, .inr (.inr (.inr (.inr (fun k => some (rm k))))))), (na_1, .inl (dA 0, 3, .inl (upd (upd (upd (fun _ => 0) 0 t) 1 a) 2 b)))]) [0, 1] (by decide) rfl
    have hP : va_P (dC, dI) vwCl [((xa 7), .inl (dA 4, 8, .inr (.inr (.inr (.inr (fun k => some (rm k))))))), (na_1, .inl (dA 0, 3, .inl (upd (upd (upd (fun _ => 0) 0 t) 1 a) 2 b)))] H := hP
    have hD : va_D A [((xa 7), .inl (dA 4, 8, .inr (.inr (.inr (.inr (fun k => some (rm k))))))), (na_1, .inl (dA 0, 3, .inl (upd (upd (upd (fun _ => 0) 0 t) 1 a) 2 b)))] := hD
    subst hb9
    subst hQe
    exact vx_outP hown hlocks (by rw [hxt]; exact (List.forall_mem_cons.mpr ⟨Or.inl (by decide), (fun _ h => nomatch h)⟩)) h1 h2 h3 (fun t10 e10 _ => ⟨(), trivial, (⟨Or.inr (Or.inl (⟨rfl, cmb_2 hg14 (rgs3.symm.trans hp9)⟩)), by rw [e10]; exact hP.sub (ws' := [((xa 7), .inl (dA 4, 8, .inr (.inr (.inr (.inr (fun k => some (rm k)))))))]) [0] rfl⟩ : (_ ∧ _)), hS.F e10⟩) hS.2.2 (by first | decide | omega) (by first | decide | omega)
  have hrg : (rgB t && rgB a && rgB b) = true := rgs3.symm.trans hq
  clear hq
  have hP : va_P (dC, dI) vwCl [((xa 7), .inl (dA 4, 8, .inr (.inr (.inr (.inr (fun k => some (rm k))))))), (na_1, .inl (dA 0, 3, .inl (upd (upd (upd (fun _ => 0) 0 t) 1 a) 2 b)))] H := hP
  have hD : va_D A [((xa 7), .inl (dA 4, 8, .inr (.inr (.inr (.inr (fun k => some (rm k))))))), (na_1, .inl (dA 0, 3, .inl (upd (upd (upd (fun _ => 0) 0 t) 1 a) 2 b)))] := hD
  have hP0 := hP.sub (ws' := [((xa 7), .inl (dA 4, 8, .inr (.inr (.inr (.inr (fun k => some (rm k)))))))]) [0] rfl
  have hD0 := hD.sub (ws' := [((xa 7), .inl (dA 4, 8, .inr (.inr (.inr (.inr (fun k => some (rm k)))))))]) [0] (by decide) rfl
  have h8jt := inB_nat (by decide) (show inB t (nI 0) (nI 7) = true from (Bool.and_eq_true_iff.mp (Bool.and_eq_true_iff.mp hrg).1).1)
  have h8ja := inB_nat (by decide) (show inB a (nI 0) (nI 7) = true from (Bool.and_eq_true_iff.mp (Bool.and_eq_true_iff.mp hrg).1).2)
  have h8jb := inB_nat (by decide) (show inB b (nI 0) (nI 7) = true from (Bool.and_eq_true_iff.mp hrg).2)
  obtain ⟨jt, h9jt, e8jt⟩ := h8jt
  obtain ⟨ja, h9ja, e8ja⟩ := h8ja
  obtain ⟨jb, h9jb, e8jb⟩ := h8jb
  have h7jt : jt < 8 := by omega
  subst e8jt
  have h7ja : ja < 8 := by omega
  subst e8ja
  have h7jb : jb < 8 := by omega
  subst e8jb
  have hP := hP0
  have hD := hD0
  obtain ⟨jo, h9jo, e8jo⟩ := inB_nat (by decide) hg14
  subst e8jo
  refine lv_aload_n hx hb dX1_combine_36 rfl (lv_at hl 0 rfl) ?_
  refine lv_iload_n hx hb dX1_combine_37 rfl (lv_at hl 2 rfl) ?_
  refine lv_aload_n hx hb dX1_combine_38 rfl (lv_at hl 0 rfl) ?_
  refine va_get (D := (dC, dI)) (ci := 3) (v := .ref (xa 1)) (C := RX1) (T := TX1) (N := 9) hx hb hts in_X1 hown hK (hR0.up hS) 0 rfl rfl 0 (by decide) (hts _ q284) (fun _ h9 => h9) rfl dX1_combine_39 ?_
  refine lv_iload_n hx hb dX1_combine_42 rfl (lv_at hl 1 rfl) ?_
  refine a_aldq hx hb hK (hR1.up hS) 0 6 rfl rfl (by omega) (by decide) dX1_combine_43 ?_
  refine e_v (y := .ref (σ (20 + jo))) (rfl) ?_
  refine lv_aload_n hx hb dX1_combine_44 rfl (lv_at hl 0 rfl) ?_
  refine va_get (D := (dC, dI)) (ci := 3) (v := .ref (xa 3)) (C := RX1) (T := TX1) (N := 9) hx hb hts in_X1 hown hK (hR0.up hS) 0 rfl rfl 2 (by decide) (hts _ q286) (fun _ h9 => h9) rfl dX1_combine_45 ?_
  refine va_getN (D := (dC, dI)) (ci := 4) (v := .ref ga) (C := RX4) (T := TX4) (N := 2) hx hb hts in_X4 hown hK (hR0.up hS) 1 rfl rfl 0 (by decide) (((va_Nw.warmF hG.1 (va_Nw.of rfl (Z.2.1 _ q240)))).use rfl) (fun _ h9 => h9) rfl dX1_combine_48 ?_
  refine lv_aload_n hx hb dX1_combine_51 rfl (lv_at hl 0 rfl) ?_
  refine va_get (D := (dC, dI)) (ci := 3) (v := .ref (xa 3)) (C := RX1) (T := TX1) (N := 9) hx hb hts in_X1 hown hK (hR0.up hS) 0 rfl rfl 2 (by decide) (hts _ q286) (fun _ h9 => h9) rfl dX1_combine_52 ?_
  refine va_getN (D := (dC, dI)) (ci := 4) (v := .ref (xa 7)) (C := RX4) (T := TX4) (N := 2) hx hb hts in_X4 hown hK (hR0.up hS) 1 rfl rfl 1 (by decide) (((va_Nw.warmF hG.1 (va_Nw.of rfl (Z.2.1 _ q243)))).use rfl) (fun _ h9 => h9) rfl dX1_combine_55 ?_
  refine lv_iload_n hx hb dX1_combine_58 rfl (lv_at hl 3 rfl) ?_
  refine a_aldq hx hb hK hP 0 4 rfl rfl (by omega) (by decide) dX1_combine_59 ?_
  refine e_v (y := .ref (rm ja)) (rfl) ?_
  have hR3 := hRG ja (by omega)
  refine lv_aload_n hx hb dX1_combine_60 rfl (lv_at hl 0 rfl) ?_
  refine va_get (D := (dC, dI)) (ci := 3) (v := .ref (xa 3)) (C := RX1) (T := TX1) (N := 9) hx hb hts in_X1 hown hK (hR0.up hS) 0 rfl rfl 2 (by decide) (hts _ q286) (fun _ h9 => h9) rfl dX1_combine_61 ?_
  refine va_getN (D := (dC, dI)) (ci := 4) (v := .ref (xa 7)) (C := RX4) (T := TX4) (N := 2) hx hb hts in_X4 hown hK (hR0.up hS) 1 rfl rfl 1 (by decide) (((va_Nw.warmF hG.1 (va_Nw.of rfl (Z.2.1 _ q243)))).use rfl) (fun _ h9 => h9) rfl dX1_combine_64 ?_
  refine lv_iload hx hb dX1_combine_67 (lv_at hl 4 rfl) ?_
  refine a_aldq hx hb hK hP 0 4 rfl rfl (by omega) (by decide) dX1_combine_69 ?_
  refine e_v (y := .ref (rm jb)) (rfl) ?_
  have hR4 := hRG jb (by omega)
  have hF9 := va_free (wc := []) hD hS (fun q h => hA q h) [] rfl
  refine x_r (wc := []) (wr := [((xa 7), .inl (dA 4, 8, .inr (.inr (.inr (.inr (fun k => some (rm k)))))))]) (two_run Z Y hG hS ⟨hx, hb, hml, hown, hts⟩ (k := jo) (by omega) ga sg sr p0 q0 r0 (rm ja) (rr ja) (Ms ja) (rm jb) (rr jb) (Ms jb) (sR ja (by omega)) (sR jb (by omega)) (hR3.to hS (fun q _ h => hF9 q h)) (hR4.to hS (fun q _ h => hF9 q h)) (hAG.to hS (fun q _ h => hF9 q h)) q634 hl.1 (Nat.le_of_ble_eq_true rfl) dX1_combine_70 ⟨Nat.le_of_ble_eq_true rfl, Nat.le_of_ble_eq_true rfl⟩ ⟨by first | decide | omega | (show _ ≤ (14 : Nat); omega), by first | decide | omega | (show _ ≤ (200 : Nat); omega)⟩) hP hD hS hA [] [0] rfl rfl (by decide) (by decide) (fun E ce q9 u9 t9 H locs ht9 hp9 hb9 hz hP hS h1 h2 h3 => ?_) (fun u9 ra9 H locs hq hX hz hk_ hP hD hS => ?_)
  · have hP : va_P (dC, dI) vwCl [((xa 7), .inl (dA 4, 8, .inr (.inr (.inr (.inr (fun k => some (rm k)))))))] H := hP
    have hD : va_D A [((xa 7), .inl (dA 4, 8, .inr (.inr (.inr (.inr (fun k => some (rm k)))))))] := hD
    subst hb9
    refine vx_catch (name := "BladeAlgebra$Unfit") (E := "BladeAlgebra$Unfit") (ce := ce) hown [] ⟨36, 76, 77, 179⟩ [] hxt (fun _ h => nomatch h) (by decide) (by decide) (hts _ q468) (castZ Z hG q523) h1 h2 h3 ?_
    have hpU := hp9
    refine lv_astore (lv' := [(5, .ref q9), (0, .ref (xa 0)), (1, .int (nI jo)), (2, .int (nI jt)), (3, .int (nI ja)), (4, .int (nI jb))]) hx hb dX1_combine_77 hl (by decide) rfl (fun ls hl => ?_)
    have hF9 := va_free (wc := []) hD hS (fun q h => hA q h) [] rfl
    refine c_r (wr := [((xa 7), .inl (dA 4, 8, .inr (.inr (.inr (.inr (fun k => some (rm k)))))))]) (va_runS (As := []) (rest := []) ⟨hx, hb, hml, hown, hts⟩ (x1_large Z (va_A [] H.size) H.size (fun q h => Or.inr h) Y) (va_cwS 0 hts (lw_S q562 q563 q96 q564) rfl rfl rfl (by decide +kernel) ⟨Nat.le_of_ble_eq_true rfl, Nat.le_of_ble_eq_true rfl⟩) (gP_S hG hS (fun q _ h => hF9 q h) rfl) rfl rfl hl.1 rfl (lv_room (Nat.le_of_ble_eq_true rfl)) dX1_combine_79 ⟨by first | decide | omega | (show _ ≤ (14 : Nat); omega), by first | decide | omega | (show _ ≤ (200 : Nat); omega)⟩) hP hD hS hA [] [0] rfl rfl (by decide) (by decide) (fun u9 ra9 H locs hq hX hz hk hP hD hS => ?_)
    obtain ⟨ra_2, rfl⟩ : ∃ z, z = ra9 := ⟨_, rfl⟩
    have hP : va_P (dC, dI) vwCl [((xa 7), .inl (dA 4, 8, .inr (.inr (.inr (.inr (fun k => some (rm k))))))), (ra_2, .inr (17, []))] H := hP
    have hD : va_D A [((xa 7), .inl (dA 4, 8, .inr (.inr (.inr (.inr (fun k => some (rm k))))))), (ra_2, .inr (17, []))] := hD
    refine vx_athrow hx hb dX1_combine_82 ?_
    obtain ⟨ce, h1, h2, h3⟩ := va_thr hK hP (ci := 17) (q0 := 1) rfl rfl
    subst hQe
    exact vx_outP hown hlocks (by rw [hxt]; exact (List.forall_mem_cons.mpr ⟨Or.inl (by decide), (fun _ h => nomatch h)⟩)) h1 h2 h3 (fun t10 e10 _ => ⟨(), trivial, (⟨Or.inr (Or.inr (⟨rfl, cmb_3 h9jo h7jt h7ja h7jb hpU⟩)), by rw [e10]; exact hP.sub (ws' := [((xa 7), .inl (dA 4, 8, .inr (.inr (.inr (.inr (fun k => some (rm k)))))))]) [0] rfl⟩ : (_ ∧ _)), hS.F e10⟩) hS.2.2 (by first | decide | omega) (by first | decide | omega)
  obtain ⟨ra_3, rfl⟩ : ∃ z, z = ra9 := ⟨_, rfl⟩
  obtain ⟨mr_3, M_3⟩ := u9
  have e_3 := hq
  have sm_3 : MSm M_3 := cmbS_sm hn (sR ja (by omega)) (sR jb (by omega)) e_3
  clear hq
  have hP : va_P (dC, dI) vwCl [((xa 7), .inl (dA 4, 8, .inr (.inr (.inr (.inr (fun k => some (rm k))))))), (ra_3, .inr (0, [.ref mr_3, .long (M_3 0)])), (mr_3, .inl (dA 1, 32, .inr (.inl (fun j => M_3 (j + 1)))))] H := hP
  have hD : va_D A [((xa 7), .inl (dA 4, 8, .inr (.inr (.inr (.inr (fun k => some (rm k))))))), (ra_3, .inr (0, [.ref mr_3, .long (M_3 0)])), (mr_3, .inl (dA 1, 32, .inr (.inl (fun j => M_3 (j + 1)))))] := hD
  have hF9 := va_free (wc := [((xa 7), .inl (dA 4, 8, .inr (.inr (.inr (.inr (fun k => some (rm k)))))))]) hD hS (fun q h => hA q h) [0] rfl
  refine c_i (wr := [(ra_3, .inr (0, [.ref mr_3, .long (M_3 0)])), (mr_3, .inl (dA 1, 32, .inr (.inl (fun j => M_3 (j + 1)))))]) (va_runV (As := [.int (nI jt), .ref ra_3]) (rest := []) ⟨hx, hb, hml, hown, hts⟩ (x1_store Z (va_A [((xa 7), .inl (dA 4, 8, .inr (.inr (.inr (.inr (fun k => some (rm k)))))))] H.size) H.size (fun q h => Or.inr h) Y xa tl ec ep ga (fun k => some (rm k)) jt ra_3 mr_3 M_3 (by omega)) (cwV 2 hts (lw_V q731 q733 qs6 q96 q734) rfl rfl rfl (by decide +kernel) ⟨Nat.le_of_ble_eq_true rfl, Nat.le_of_ble_eq_true rfl⟩) (gP_V (va_recv hK (hR0.up hS) (ci := 3) (q0 := 0) rfl rfl) hG hS (fun q _ h => hF9 q h) ⟨rfl, (hP.sub (ws' := [((xa 7), .inl (dA 4, 8, .inr (.inr (.inr (.inr (fun k => some (rm k)))))))]) [0] rfl), (hD.sub (ws' := [((xa 7), .inl (dA 4, 8, .inr (.inr (.inr (.inr (fun k => some (rm k)))))))]) [0] (by decide) rfl).self, (hR0.to hS (fun q _ h => hF9 q h)), (RO.beside (wr := [(ra_3, .inr (0, [.ref mr_3, .long (M_3 0)])), (mr_3, .inl (dA 1, 32, .inr (.inl (fun j => M_3 (j + 1)))))]) hP hD [0] [1, 2] rfl rfl (by decide))⟩) rfl rfl hl.1 rfl (lv_room (Nat.le_of_ble_eq_true rfl)) dX1_combine_73 ⟨by first | decide | omega | (show _ ≤ (14 : Nat); omega), by first | decide | omega | (show _ ≤ (200 : Nat); omega)⟩) hP hD hS hA [0] [1, 2] rfl rfl (by decide) (by decide) (fun r9 u9 H locs hq hX hz hk hP hD hS => ?_)
  obtain ⟨r_4, rfl⟩ : ∃ z, z = r9 := ⟨_, rfl⟩
  subst hq
  have hP : va_P (dC, dI) vwCl [(ra_3, .inr (0, [.ref mr_3, .long (M_3 0)])), (mr_3, .inl (dA 1, 32, .inr (.inl (fun j => M_3 (j + 1))))), ((xa 7), .inl (dA 4, 8, .inr (.inr (.inr (.inr (va_up (fun k => some (rm k)) jt (some ra_3)))))))] H := hP
  have hD : va_D A [(ra_3, .inr (0, [.ref mr_3, .long (M_3 0)])), (mr_3, .inl (dA 1, 32, .inr (.inl (fun j => M_3 (j + 1))))), ((xa 7), .inl (dA 4, 8, .inr (.inr (.inr (.inr (va_up (fun k => some (rm k)) jt (some ra_3)))))))] := hD
  have e8 : rg (nI jt) = jt := rg_n (by omega)
  subst hQe
  refine vx_ret ?_
  refine W.widen (k := 14) (n := 200) (by first | decide | omega) (by first | decide | omega) ?_
  exact W.iret (v := nI (trmS M_3)) hx hb hr (fun tz ht hW => ⟨⟨_, (ra_3, mr_3, M_3), rfl, ⟨cmb_ok h9jo h7jt h7ja h7jb e_3, rfl⟩, B1_at ht (by rw [e8]; exact hP.sub [2] rfl) (by rw [e8]; exact hD.sub [2] (by decide) rfl) (⟨hP.sub [0, 1] rfl, Or.inl ⟨fresh_of hD hAf 2 0 rfl rfl (by decide), fresh_of hD hAf 2 1 rfl rfl (by decide)⟩⟩)⟩, hS.F ht⟩) hS.2.2 dX1_combine_76
set_option maxHeartbeats 4000000 in
theorem x1_change {l : Launch} {dC : Nat → ClassId} {dI : Nat → Nat → Nat} {dA : Nat → ClassId} {s0 : State} {b0 : Addr} (Z : Z0 l dC dI dA s0 b0) (A : Nat → Prop) (sz : Nat) (hA : ∀ q : Nat, sz ≤ q → A q) {σ : Nat → Nat} (Y : SS (dC, dI) dA σ s0) (xa : Nat → Nat) (tl : Nat) (ec ep : Int32) (ga sg : Nat) (sr : Nat → Nat) (p0 q0 r0 : Nat) (rm rr : Nat → Nat) (Ms : Nat → MV) (xop t a : Int32) (sR : ∀ k, k < 8 → MSm (Ms k)) (pR : ∀ k, k < 8 → MSp (2 ^ (p0 + q0 + r0)) (Ms k)) (hAf : ∀ q, A q → q = xa 7 ∨ sz ≤ q) : vx_Met l yX1_change (wsW_ yX1_change cX1_change 5 (some .int) [((31 : Nat), (61 : Nat), (62 : Nat), (179 : Nat))]) ({ frames := 10, cells := 15, slots := 200, locals := 600 } : Room) (gP [.ref (xa 0), .int xop, .int t, .int a] s0 A (fun H => H.size = sz ∧ va_P (dC, dI) vwCl [((xa 7), .inl (dA 4, 8, .inr (.inr (.inr (.inr (fun k => some (rm k)))))))] H ∧ va_D A [((xa 7), .inl (dA 4, 8, .inr (.inr (.inr (.inr (fun k => some (rm k)))))))] ∧ RO A (dC, dI) [((xa 0), .inr (3, xFs xa tl ec ep)), ((xa 3), .inr (4, [.ref ga, .ref (xa 7)]))] H ∧ RO A (dC, dI) [((xa 2), .inl (dA 7, 10, .inr (.inr (.inr (.inr (fun k => some (σ (30 + k))))))))] H ∧ AG A (dC, dI) dA ga sg sr p0 q0 r0 H ∧ RG A (dC, dI) dA rm rr Ms H)) (va_Qi (S := Nat × Nat × MV) (fun r9 u => chgX p0 q0 r0 Ms xop t a = (nI 0, some u.2.2) ∧ r9 = nI (trmS u.2.2)) (B1 (dC, dI) A (fun u => [(xa 7, .inl (dA 4, 8, .inr (.inr (.inr (.inr (va_up (fun k => some (rm k)) (rg t) (some u.1)))))))]) (fun u H => NM (dC, dI) dA σ rm rr Ms sz u H)) A) (vx_X (S := Unit) (fun _ => True) (fun _ E _ t9 => ((E = "java/lang/IllegalArgumentException" ∧ chgX p0 q0 r0 Ms xop t a = (nI 1, none)) ∨ (E = "java/lang/IndexOutOfBoundsException" ∧ chgX p0 q0 r0 Ms xop t a = (nI 2, none)) ∨ (E = "java/lang/ArithmeticException" ∧ chgX p0 q0 r0 Ms xop t a = (nI 3, none)) ∨ (E = "java/lang/IllegalStateException" ∧ chgX p0 q0 r0 Ms xop t a = (nI 4, none))) ∧ va_P (dC, dI) vwCl [((xa 7), .inl (dA 4, 8, .inr (.inr (.inr (.inr (fun k => some (rm k)))))))] t9.heap) A) 15 200 A := by
  refine vx_ofWH (cc := cX1_change) (maxL := 5) (ret := (some .int)) (by decide) rfl ?_
  intro p e s m args below meth c s₁ B hml hv
  obtain ⟨hav, hG, hsz, hP, hD, hR0, hR1, hAG, hRG⟩ := hv
  have hx := B.exec
  have hb := B.bytes
  have hr := B.returns
  have hts := atoms_spec (ws := (wsW_ yX1_change cX1_change 5 (some .int) [((31 : Nat), (61 : Nat), (62 : Nat), (179 : Nat))])) B.pre
  have hxt : c.exceptionTable.toList = [⟨31, 61, 62, 179⟩] := vx_table (x := yX1_change) (y := yX1_change) B (hts _ List.mem_cons_self)
  have hts : ∀ w ∈ lw_all, w.before _ s = true := fun w h => hts w (List.mem_cons_of_mem _ h)
  have hown : s.vm.findClass RX1 = some m.cls := findClass_of_methodNamed B.named
  have hlocks := B.notSynchronized
  have hK := hG.K Z
  subst hsz
  have hS : va_S A s.heap s.heap [] := va_S.rf
  have hl := lv_entry ([.ref (xa 0), .int xop, .int t, .int a]) (n := 5) (Nat.le_of_ble_eq_true rfl)
  rw [show entryFrame m args 5 = entryFrame m ([.ref (xa 0), .int xop, .int t, .int a] : List Value).toArray 5 from by rw [hav], lg_entry_eq]
  generalize (lg_sl ([.ref (xa 0), .int xop, .int t, .int a]) ++ List.replicate (5 - (lg_sl ([.ref (xa 0), .int xop, .int t, .int a])).length) Slot.unset).toArray = ls at hl ⊢
  have hl : lv_has ls 5 [(0, .ref (xa 0)), (1, .int xop), (2, .int t), (3, .int a)] := hl
  generalize hQe : vx_MQ below _ _ _ s _ _ _ = Q
  change W p l e ({ frames := 10, cells := 15, slots := 200, locals := 600 } : Room) s m args below meth c s.heap [] 0 0 Q (F0 m 0 ls [])
  have hn := hAG.1
  have h5 := pow5 hn
  have hR2 := hAG.2.1
  refine lv_iload_n hx hb dX1_change_0 rfl (lv_at hl 1 rfl) ?_
  refine lv_i2l (v := xop.toInt64) hx hb dX1_change_1 rfl ?_
  refine lv_lconst (v := 0) hx hb dX1_change_2 rfl ?_
  refine lv_aload_n hx hb dX1_change_3 rfl (lv_at hl 0 rfl) ?_
  refine va_get (D := (dC, dI)) (ci := 3) (v := .ref (xa 2)) (C := RX1) (T := TX1) (N := 9) hx hb hts in_X1 hown hK (hR0.up hS) 0 rfl rfl 1 (by decide) (hts _ q285) (fun _ h9 => h9) rfl dX1_change_4 ?_
  refine va_alen (v := nI 10) hx hb hK (hR1.up hS) 0 7 rfl rfl rfl dX1_change_7 ?_
  refine lv_iconst (v := nI 1) hx hb dX1_change_8 (by decide) ?_
  refine lv_isub hx hb dX1_change_9 ?_
  refine e_i (y := nI 9) (pk_sub (by omega)) ?_
  refine lv_i2l (v := (nI 9).toInt64) hx hb dX1_change_10 rfl ?_
  refine s_i (va_runS (As := [.long xop.toInt64, .long 0, .long ((nI 9).toInt64)]) (rest := []) ⟨hx, hb, hml, hown, hts⟩ (x1_isIn Z xop.toInt64 0 ((nI 9).toInt64)) (va_cwS 3 hts (lw_S q332 q333 q96 q334) rfl rfl rfl (by decide +kernel) ⟨Nat.le_of_ble_eq_true rfl, Nat.le_of_ble_eq_true rfl⟩) (gP_S hG hS (fun q _ h => h.elim) trivial) rfl rfl hl.1 rfl (lv_room (Nat.le_of_ble_eq_true rfl)) dX1_change_11 ⟨by first | decide | omega | (show _ ≤ (15 : Nat); omega), by first | decide | omega | (show _ ≤ (200 : Nat); omega)⟩) ?_
  refine e_i (y := bI (inB xop (nI 0) (nI 9))) (congrArg bI (inL_B xop (nI 0) (nI 9))) ?_
  have hF9 := va_free (wc := []) hD hS (fun q h => hA q h) [] rfl
  refine x_v (wc := []) (wr := [((xa 7), .inl (dA 4, 8, .inr (.inr (.inr (.inr (fun k => some (rm k)))))))]) (vx_runS (As := [.int (bI (inB xop (nI 0) (nI 9)))]) (rest := []) ⟨hx, hb, hml, hown, hts⟩ (x1_argument Z (va_A [] s.heap.size) s.heap.size (fun q h => Or.inr h) (SS.st Y) (σ 51) (SS.st1 Y) (inB xop (nI 0) (nI 9))) (va_cwS 1 hts (lw_S q335 q336 q96 q337) rfl rfl rfl (by decide +kernel) ⟨Nat.le_of_ble_eq_true rfl, Nat.le_of_ble_eq_true rfl⟩) (gP_S hG hS (fun q _ h => hF9 q h) rfl) rfl rfl hl.1 rfl (lv_room (Nat.le_of_ble_eq_true rfl)) dX1_change_14 ⟨by first | decide | omega | (show _ ≤ (15 : Nat); omega), by first | decide | omega | (show _ ≤ (200 : Nat); omega)⟩) hP hD hS hA [] [0] rfl rfl (by decide) (by decide) (fun E ce q9 u9 t9 H locs ht9 hp9 hb9 hz hP hS h1 h2 h3 => ?_) (fun u9 H locs hq hX hz hk hP hD hS => ?_)
  · have hD := hD.sub (ws' := [((xa 7), .inl (dA 4, 8, .inr (.inr (.inr (.inr (fun k => some (rm k)))))))]) [0] (by decide) rfl
    have hP : va_P (dC, dI) vwCl [((xa 7), .inl (dA 4, 8, .inr (.inr (.inr (.inr (fun k => some (rm k)))))))] H := hP
    have hD : va_D A [((xa 7), .inl (dA 4, 8, .inr (.inr (.inr (.inr (fun k => some (rm k)))))))] := hD
    subst hb9
    subst hQe
    exact vx_outP hown hlocks (by rw [hxt]; exact (List.forall_mem_cons.mpr ⟨Or.inl (by decide), (fun _ h => nomatch h)⟩)) h1 h2 h3 (fun t10 e10 _ => ⟨(), trivial, (⟨Or.inl (⟨rfl, chg_1 hp9⟩), by rw [e10]; exact hP.sub (ws' := [((xa 7), .inl (dA 4, 8, .inr (.inr (.inr (.inr (fun k => some (rm k)))))))]) [0] rfl⟩ : (_ ∧ _)), hS.F e10⟩) hS.2.2 (by first | decide | omega) (by first | decide | omega)
  have hg14 : (inB xop (nI 0) (nI 9)) = true := hq
  clear hq
  have hP : va_P (dC, dI) vwCl [((xa 7), .inl (dA 4, 8, .inr (.inr (.inr (.inr (fun k => some (rm k)))))))] H := hP
  have hD : va_D A [((xa 7), .inl (dA 4, 8, .inr (.inr (.inr (.inr (fun k => some (rm k)))))))] := hD
  refine lv_iconst (v := nI 2) hx hb dX1_change_17 (by decide) ?_
  refine a_newa (D := (dC, dI)) (atype := .int) (N' := 2) (a0 := (2, .inl (fun _ => 0))) hx hb (hts _ q230) rfl hK hP hD hS hA 0 rfl (fun _ => ra_int) (fun _ => rfl) (by decide) (by decide) (by decide) (by first | decide | omega) (by first | decide | omega) dX1_change_18 (fun na_1 H locs hP hD hS => ?_)
  have hP : va_P (dC, dI) vwCl [((xa 7), .inl (dA 4, 8, .inr (.inr (.inr (.inr (fun k => some (rm k))))))), (na_1, .inl (dA 0, 2, .inl (fun _ => 0)))] H := hP
  have hD : va_D A [((xa 7), .inl (dA 4, 8, .inr (.inr (.inr (.inr (fun k => some (rm k))))))), (na_1, .inl (dA 0, 2, .inl (fun _ => 0)))] := hD
  refine lv_dup hx hb dX1_change_20 rfl ?_
  refine lv_iconst (v := nI 0) hx hb dX1_change_21 (by decide) ?_
  refine lv_iload_n hx hb dX1_change_22 rfl (lv_at hl 2 rfl) ?_
  refine a_iast hx hb hK hP hD hS 1 0 rfl rfl (by omega) (by omega) dX1_change_23 (fun H locs hP hD hS => ?_)
  have hP : va_P (dC, dI) vwCl [((xa 7), .inl (dA 4, 8, .inr (.inr (.inr (.inr (fun k => some (rm k))))))), (na_1, .inl (dA 0, 2, .inl (upd (fun _ => 0) 0 t)))] H := hP
  have hD : va_D A [((xa 7), .inl (dA 4, 8, .inr (.inr (.inr (.inr (fun k => some (rm k))))))), (na_1, .inl (dA 0, 2, .inl (upd (fun _ => 0) 0 t)))] := hD
  refine lv_dup hx hb dX1_change_24 rfl ?_
  refine lv_iconst (v := nI 1) hx hb dX1_change_25 (by decide) ?_
  refine lv_iload_n hx hb dX1_change_26 rfl (lv_at hl 3 rfl) ?_
  refine a_iast hx hb hK hP hD hS 1 0 rfl rfl (by omega) (by omega) dX1_change_27 (fun H locs hP hD hS => ?_)
  have hP : va_P (dC, dI) vwCl [((xa 7), .inl (dA 4, 8, .inr (.inr (.inr (.inr (fun k => some (rm k))))))), (na_1, .inl (dA 0, 2, .inl (upd (upd (fun _ => 0) 0 t) 1 a)))] H := hP
  have hD : va_D A [((xa 7), .inl (dA 4, 8, .inr (.inr (.inr (.inr (fun k => some (rm k))))))), (na_1, .inl (dA 0, 2, .inl (upd (upd (fun _ => 0) 0 t) 1 a)))] := hD
  have hF9 := va_free (wc := []) hD hS (fun q h => hA q h) [] rfl
  refine x_v (wc := []) (wr := [((xa 7), .inl (dA 4, 8, .inr (.inr (.inr (.inr (fun k => some (rm k))))))), (na_1, .inl (dA 0, 2, .inl (upd (upd (fun _ => 0) 0 t) 1 a)))]) (vx_runS (As := [.ref na_1]) (rest := []) ⟨hx, hb, hml, hown, hts⟩ (x1_registers Z (va_A [] H.size) H.size (fun q h => Or.inr h) Y na_1 2 (upd (upd (fun _ => 0) 0 t) 1 a) (by decide)) (va_cwS 1 hts (lw_S q469 q470 q96 q471) rfl rfl rfl (by decide +kernel) ⟨Nat.le_of_ble_eq_true rfl, Nat.le_of_ble_eq_true rfl⟩) (gP_S hG hS (fun q _ h => hF9 q h) ⟨rfl, (RO.beside (wr := [(na_1, .inl (dA 0, 2, .inl (upd (upd (fun _ => 0) 0 t) 1 a)))]) hP hD [] [1] rfl rfl (by decide))⟩) rfl rfl hl.1 rfl (lv_room (Nat.le_of_ble_eq_true rfl)) dX1_change_28 ⟨by first | decide | omega | (show _ ≤ (15 : Nat); omega), by first | decide | omega | (show _ ≤ (200 : Nat); omega)⟩) hP hD hS hA [] [0, 1] rfl rfl (by decide) (by decide) (fun E ce q9 u9 t9 H locs ht9 hp9 hb9 hz hP hS h1 h2 h3 => ?_) (fun u9 H locs hq hX hz hk hP hD hS => ?_)
  · have hD := hD.sub (ws' := [((xa 7), .inl (dA 4, 8, .inr (.inr (.inr (.inr (fun k => some (rm k))))))), (na_1, .inl (dA 0, 2, .inl (upd (upd (fun _ => 0) 0 t) 1 a)))]) [0, 1] (by decide) rfl
    have hP : va_P (dC, dI) vwCl [((xa 7), .inl (dA 4, 8, .inr (.inr (.inr (.inr (fun k => some (rm k))))))), (na_1, .inl (dA 0, 2, .inl (upd (upd (fun _ => 0) 0 t) 1 a)))] H := hP
    have hD : va_D A [((xa 7), .inl (dA 4, 8, .inr (.inr (.inr (.inr (fun k => some (rm k))))))), (na_1, .inl (dA 0, 2, .inl (upd (upd (fun _ => 0) 0 t) 1 a)))] := hD
    subst hb9
    subst hQe
    exact vx_outP hown hlocks (by rw [hxt]; exact (List.forall_mem_cons.mpr ⟨Or.inl (by decide), (fun _ h => nomatch h)⟩)) h1 h2 h3 (fun t10 e10 _ => ⟨(), trivial, (⟨Or.inr (Or.inl (⟨rfl, chg_2 hg14 (rgs2.symm.trans hp9)⟩)), by rw [e10]; exact hP.sub (ws' := [((xa 7), .inl (dA 4, 8, .inr (.inr (.inr (.inr (fun k => some (rm k)))))))]) [0] rfl⟩ : (_ ∧ _)), hS.F e10⟩) hS.2.2 (by first | decide | omega) (by first | decide | omega)
  have hrg : (rgB t && rgB a) = true := rgs2.symm.trans hq
  clear hq
  have hP : va_P (dC, dI) vwCl [((xa 7), .inl (dA 4, 8, .inr (.inr (.inr (.inr (fun k => some (rm k))))))), (na_1, .inl (dA 0, 2, .inl (upd (upd (fun _ => 0) 0 t) 1 a)))] H := hP
  have hD : va_D A [((xa 7), .inl (dA 4, 8, .inr (.inr (.inr (.inr (fun k => some (rm k))))))), (na_1, .inl (dA 0, 2, .inl (upd (upd (fun _ => 0) 0 t) 1 a)))] := hD
  have hP0 := hP.sub (ws' := [((xa 7), .inl (dA 4, 8, .inr (.inr (.inr (.inr (fun k => some (rm k)))))))]) [0] rfl
  have hD0 := hD.sub (ws' := [((xa 7), .inl (dA 4, 8, .inr (.inr (.inr (.inr (fun k => some (rm k)))))))]) [0] (by decide) rfl
  have h8jt := inB_nat (by decide) (show inB t (nI 0) (nI 7) = true from (Bool.and_eq_true_iff.mp hrg).1)
  have h8ja := inB_nat (by decide) (show inB a (nI 0) (nI 7) = true from (Bool.and_eq_true_iff.mp hrg).2)
  obtain ⟨jt, h9jt, e8jt⟩ := h8jt
  obtain ⟨ja, h9ja, e8ja⟩ := h8ja
  have h7jt : jt < 8 := by omega
  subst e8jt
  have h7ja : ja < 8 := by omega
  subst e8ja
  have hP := hP0
  have hD := hD0
  obtain ⟨jo, h9jo, e8jo⟩ := inB_nat (by decide) hg14
  subst e8jo
  refine lv_aload_n hx hb dX1_change_31 rfl (lv_at hl 0 rfl) ?_
  refine lv_iload_n hx hb dX1_change_32 rfl (lv_at hl 2 rfl) ?_
  refine lv_aload_n hx hb dX1_change_33 rfl (lv_at hl 0 rfl) ?_
  refine va_get (D := (dC, dI)) (ci := 3) (v := .ref (xa 2)) (C := RX1) (T := TX1) (N := 9) hx hb hts in_X1 hown hK (hR0.up hS) 0 rfl rfl 1 (by decide) (hts _ q285) (fun _ h9 => h9) rfl dX1_change_34 ?_
  refine lv_iload_n hx hb dX1_change_37 rfl (lv_at hl 1 rfl) ?_
  refine a_aldq hx hb hK (hR1.up hS) 0 7 rfl rfl (by omega) (by decide) dX1_change_38 ?_
  refine e_v (y := .ref (σ (30 + jo))) (rfl) ?_
  refine lv_aload_n hx hb dX1_change_39 rfl (lv_at hl 0 rfl) ?_
  refine va_get (D := (dC, dI)) (ci := 3) (v := .ref (xa 3)) (C := RX1) (T := TX1) (N := 9) hx hb hts in_X1 hown hK (hR0.up hS) 0 rfl rfl 2 (by decide) (hts _ q286) (fun _ h9 => h9) rfl dX1_change_40 ?_
  refine va_getN (D := (dC, dI)) (ci := 4) (v := .ref ga) (C := RX4) (T := TX4) (N := 2) hx hb hts in_X4 hown hK (hR0.up hS) 1 rfl rfl 0 (by decide) (((va_Nw.warmF hG.1 (va_Nw.of rfl (Z.2.1 _ q240)))).use rfl) (fun _ h9 => h9) rfl dX1_change_43 ?_
  refine lv_aload_n hx hb dX1_change_46 rfl (lv_at hl 0 rfl) ?_
  refine va_get (D := (dC, dI)) (ci := 3) (v := .ref (xa 3)) (C := RX1) (T := TX1) (N := 9) hx hb hts in_X1 hown hK (hR0.up hS) 0 rfl rfl 2 (by decide) (hts _ q286) (fun _ h9 => h9) rfl dX1_change_47 ?_
  refine va_getN (D := (dC, dI)) (ci := 4) (v := .ref (xa 7)) (C := RX4) (T := TX4) (N := 2) hx hb hts in_X4 hown hK (hR0.up hS) 1 rfl rfl 1 (by decide) (((va_Nw.warmF hG.1 (va_Nw.of rfl (Z.2.1 _ q243)))).use rfl) (fun _ h9 => h9) rfl dX1_change_50 ?_
  refine lv_iload_n hx hb dX1_change_53 rfl (lv_at hl 3 rfl) ?_
  refine a_aldq hx hb hK hP 0 4 rfl rfl (by omega) (by decide) dX1_change_54 ?_
  refine e_v (y := .ref (rm ja)) (rfl) ?_
  have hR3 := hRG ja (by omega)
  have hF9 := va_free (wc := []) hD hS (fun q h => hA q h) [] rfl
  refine x_r (wc := []) (wr := [((xa 7), .inl (dA 4, 8, .inr (.inr (.inr (.inr (fun k => some (rm k)))))))]) (one_run Z Y hG hS ⟨hx, hb, hml, hown, hts⟩ (k := jo) (by omega) ga sg sr p0 q0 r0 (rm ja) (rr ja) (Ms ja) (sR ja (by omega)) (pR ja (by omega)) (hR3.to hS (fun q _ h => hF9 q h)) (hAG.to hS (fun q _ h => hF9 q h)) q747 hl.1 (Nat.le_of_ble_eq_true rfl) dX1_change_55 ⟨Nat.le_of_ble_eq_true rfl, Nat.le_of_ble_eq_true rfl⟩ ⟨by first | decide | omega | (show _ ≤ (15 : Nat); omega), by first | decide | omega | (show _ ≤ (200 : Nat); omega)⟩) hP hD hS hA [] [0] rfl rfl (by decide) (by decide) (fun E ce q9 u9 t9 H locs ht9 hp9 hb9 hz hP hS h1 h2 h3 => ?_) (fun u9 ra9 H locs hq hX hz hk_ hP hD hS => ?_)
  · have hP : va_P (dC, dI) vwCl [((xa 7), .inl (dA 4, 8, .inr (.inr (.inr (.inr (fun k => some (rm k)))))))] H := hP
    have hD : va_D A [((xa 7), .inl (dA 4, 8, .inr (.inr (.inr (.inr (fun k => some (rm k)))))))] := hD
    rcases hb9 with ⟨rfl, hxc⟩ | ⟨rfl, hxc⟩
    · subst hQe
      exact vx_outP hown hlocks (by rw [hxt]; exact (List.forall_mem_cons.mpr ⟨Or.inr ⟨by decide, "BladeAlgebra$Unfit", hts _ q468, ncZ Z hG nc_IllegalStateException_Unfit⟩, (fun _ h => nomatch h)⟩)) h1 h2 h3 (fun t10 e10 _ => ⟨(), trivial, (⟨Or.inr (Or.inr (Or.inr (⟨rfl, (chg_e h9jo h7jt h7ja).trans hxc⟩))), by rw [e10]; exact hP.sub (ws' := [((xa 7), .inl (dA 4, 8, .inr (.inr (.inr (.inr (fun k => some (rm k)))))))]) [0] rfl⟩ : (_ ∧ _)), hS.F e10⟩) hS.2.2 (by first | decide | omega) (by first | decide | omega)
    · refine vx_catch (name := "BladeAlgebra$Unfit") (E := "BladeAlgebra$Unfit") (ce := ce) hown [] ⟨31, 61, 62, 179⟩ [] hxt (fun _ h => nomatch h) (by decide) (by decide) (hts _ q468) (castZ Z hG q523) h1 h2 h3 ?_
      have hpU := hp9
      have hxU := hxc
      refine lv_astore (lv' := [(4, .ref q9), (0, .ref (xa 0)), (1, .int (nI jo)), (2, .int (nI jt)), (3, .int (nI ja))]) hx hb dX1_change_62 hl (by decide) rfl (fun ls hl => ?_)
      have hF9 := va_free (wc := []) hD hS (fun q h => hA q h) [] rfl
      refine c_r (wr := [((xa 7), .inl (dA 4, 8, .inr (.inr (.inr (.inr (fun k => some (rm k)))))))]) (va_runS (As := []) (rest := []) ⟨hx, hb, hml, hown, hts⟩ (x1_large Z (va_A [] H.size) H.size (fun q h => Or.inr h) Y) (va_cwS 0 hts (lw_S q562 q563 q96 q564) rfl rfl rfl (by decide +kernel) ⟨Nat.le_of_ble_eq_true rfl, Nat.le_of_ble_eq_true rfl⟩) (gP_S hG hS (fun q _ h => hF9 q h) rfl) rfl rfl hl.1 rfl (lv_room (Nat.le_of_ble_eq_true rfl)) dX1_change_64 ⟨by first | decide | omega | (show _ ≤ (15 : Nat); omega), by first | decide | omega | (show _ ≤ (200 : Nat); omega)⟩) hP hD hS hA [] [0] rfl rfl (by decide) (by decide) (fun u9 ra9 H locs hq hX hz hk hP hD hS => ?_)
      obtain ⟨ra_2, rfl⟩ : ∃ z, z = ra9 := ⟨_, rfl⟩
      have hP : va_P (dC, dI) vwCl [((xa 7), .inl (dA 4, 8, .inr (.inr (.inr (.inr (fun k => some (rm k))))))), (ra_2, .inr (17, []))] H := hP
      have hD : va_D A [((xa 7), .inl (dA 4, 8, .inr (.inr (.inr (.inr (fun k => some (rm k))))))), (ra_2, .inr (17, []))] := hD
      refine vx_athrow hx hb dX1_change_67 ?_
      obtain ⟨ce, h1, h2, h3⟩ := va_thr hK hP (ci := 17) (q0 := 1) rfl rfl
      subst hQe
      exact vx_outP hown hlocks (by rw [hxt]; exact (List.forall_mem_cons.mpr ⟨Or.inl (by decide), (fun _ h => nomatch h)⟩)) h1 h2 h3 (fun t10 e10 _ => ⟨(), trivial, (⟨Or.inr (Or.inr (Or.inl (⟨rfl, (chg_e h9jo h7jt h7ja).trans hxU⟩))), by rw [e10]; exact hP.sub (ws' := [((xa 7), .inl (dA 4, 8, .inr (.inr (.inr (.inr (fun k => some (rm k)))))))]) [0] rfl⟩ : (_ ∧ _)), hS.F e10⟩) hS.2.2 (by first | decide | omega) (by first | decide | omega)
  obtain ⟨ra_3, rfl⟩ : ∃ z, z = ra9 := ⟨_, rfl⟩
  obtain ⟨mr_3, M_3⟩ := u9
  have e_3 := hq
  have sm_3 : MSm M_3 := oneS_sm hn (sR ja (by omega)) e_3
  clear hq
  have hP : va_P (dC, dI) vwCl [((xa 7), .inl (dA 4, 8, .inr (.inr (.inr (.inr (fun k => some (rm k))))))), (ra_3, .inr (0, [.ref mr_3, .long (M_3 0)])), (mr_3, .inl (dA 1, 32, .inr (.inl (fun j => M_3 (j + 1)))))] H := hP
  have hD : va_D A [((xa 7), .inl (dA 4, 8, .inr (.inr (.inr (.inr (fun k => some (rm k))))))), (ra_3, .inr (0, [.ref mr_3, .long (M_3 0)])), (mr_3, .inl (dA 1, 32, .inr (.inl (fun j => M_3 (j + 1)))))] := hD
  have hF9 := va_free (wc := [((xa 7), .inl (dA 4, 8, .inr (.inr (.inr (.inr (fun k => some (rm k)))))))]) hD hS (fun q h => hA q h) [0] rfl
  refine c_i (wr := [(ra_3, .inr (0, [.ref mr_3, .long (M_3 0)])), (mr_3, .inl (dA 1, 32, .inr (.inl (fun j => M_3 (j + 1)))))]) (va_runV (As := [.int (nI jt), .ref ra_3]) (rest := []) ⟨hx, hb, hml, hown, hts⟩ (x1_store Z (va_A [((xa 7), .inl (dA 4, 8, .inr (.inr (.inr (.inr (fun k => some (rm k)))))))] H.size) H.size (fun q h => Or.inr h) Y xa tl ec ep ga (fun k => some (rm k)) jt ra_3 mr_3 M_3 (by omega)) (cwV 2 hts (lw_V q731 q733 qs6 q96 q734) rfl rfl rfl (by decide +kernel) ⟨Nat.le_of_ble_eq_true rfl, Nat.le_of_ble_eq_true rfl⟩) (gP_V (va_recv hK (hR0.up hS) (ci := 3) (q0 := 0) rfl rfl) hG hS (fun q _ h => hF9 q h) ⟨rfl, (hP.sub (ws' := [((xa 7), .inl (dA 4, 8, .inr (.inr (.inr (.inr (fun k => some (rm k)))))))]) [0] rfl), (hD.sub (ws' := [((xa 7), .inl (dA 4, 8, .inr (.inr (.inr (.inr (fun k => some (rm k)))))))]) [0] (by decide) rfl).self, (hR0.to hS (fun q _ h => hF9 q h)), (RO.beside (wr := [(ra_3, .inr (0, [.ref mr_3, .long (M_3 0)])), (mr_3, .inl (dA 1, 32, .inr (.inl (fun j => M_3 (j + 1)))))]) hP hD [0] [1, 2] rfl rfl (by decide))⟩) rfl rfl hl.1 rfl (lv_room (Nat.le_of_ble_eq_true rfl)) dX1_change_58 ⟨by first | decide | omega | (show _ ≤ (15 : Nat); omega), by first | decide | omega | (show _ ≤ (200 : Nat); omega)⟩) hP hD hS hA [0] [1, 2] rfl rfl (by decide) (by decide) (fun r9 u9 H locs hq hX hz hk hP hD hS => ?_)
  obtain ⟨r_4, rfl⟩ : ∃ z, z = r9 := ⟨_, rfl⟩
  subst hq
  have hP : va_P (dC, dI) vwCl [(ra_3, .inr (0, [.ref mr_3, .long (M_3 0)])), (mr_3, .inl (dA 1, 32, .inr (.inl (fun j => M_3 (j + 1))))), ((xa 7), .inl (dA 4, 8, .inr (.inr (.inr (.inr (va_up (fun k => some (rm k)) jt (some ra_3)))))))] H := hP
  have hD : va_D A [(ra_3, .inr (0, [.ref mr_3, .long (M_3 0)])), (mr_3, .inl (dA 1, 32, .inr (.inl (fun j => M_3 (j + 1))))), ((xa 7), .inl (dA 4, 8, .inr (.inr (.inr (.inr (va_up (fun k => some (rm k)) jt (some ra_3)))))))] := hD
  have e8 : rg (nI jt) = jt := rg_n (by omega)
  subst hQe
  refine vx_ret ?_
  refine W.widen (k := 15) (n := 200) (by first | decide | omega) (by first | decide | omega) ?_
  exact W.iret (v := nI (trmS M_3)) hx hb hr (fun tz ht hW => ⟨⟨_, (ra_3, mr_3, M_3), rfl, ⟨(chg_e h9jo h7jt h7ja).trans e_3, rfl⟩, B1_at ht (by rw [e8]; exact hP.sub [2] rfl) (by rw [e8]; exact hD.sub [2] (by decide) rfl) (⟨hP.sub [0, 1] rfl, Or.inl ⟨fresh_of hD hAf 2 0 rfl rfl (by decide), fresh_of hD hAf 2 1 rfl rfl (by decide)⟩⟩)⟩, hS.F ht⟩) hS.2.2 dX1_change_61
set_option maxHeartbeats 4000000 in
theorem x1_gradePart {l : Launch} {dC : Nat → ClassId} {dI : Nat → Nat → Nat} {dA : Nat → ClassId} {s0 : State} {b0 : Addr} (Z : Z0 l dC dI dA s0 b0) (A : Nat → Prop) (sz : Nat) (hA : ∀ q : Nat, sz ≤ q → A q) {σ : Nat → Nat} (Y : SS (dC, dI) dA σ s0) (xa : Nat → Nat) (tl : Nat) (ec ep : Int32) (ga sg : Nat) (sr : Nat → Nat) (p0 q0 r0 : Nat) (rm rr : Nat → Nat) (Ms : Nat → MV) (t a g9 : Int32) (sR : ∀ k, k < 8 → MSm (Ms k)) (pR : ∀ k, k < 8 → MSp (2 ^ (p0 + q0 + r0)) (Ms k)) (hAf : ∀ q, A q → q = xa 7 ∨ sz ≤ q) : vx_Met l yX1_gradePart (ws_ yX1_gradePart cX1_gradePart 4 (some .int)) ({ frames := 9, cells := 8, slots := 80, locals := 540 } : Room) (gP [.ref (xa 0), .int t, .int a, .int g9] s0 A (fun H => H.size = sz ∧ va_P (dC, dI) vwCl [((xa 7), .inl (dA 4, 8, .inr (.inr (.inr (.inr (fun k => some (rm k)))))))] H ∧ va_D A [((xa 7), .inl (dA 4, 8, .inr (.inr (.inr (.inr (fun k => some (rm k)))))))] ∧ RO A (dC, dI) [((xa 0), .inr (3, xFs xa tl ec ep)), ((xa 3), .inr (4, [.ref ga, .ref (xa 7)]))] H ∧ AG A (dC, dI) dA ga sg sr p0 q0 r0 H ∧ RG A (dC, dI) dA rm rr Ms H)) (va_Qi (S := Nat × Nat × MV) (fun r9 u => grdX p0 q0 r0 Ms t a g9 = (nI 0, some u.2.2) ∧ r9 = nI (trmS u.2.2)) (B1 (dC, dI) A (fun u => [(xa 7, .inl (dA 4, 8, .inr (.inr (.inr (.inr (va_up (fun k => some (rm k)) (rg t) (some u.1)))))))]) (fun u H => NM (dC, dI) dA σ rm rr Ms sz u H)) A) (vx_X (S := Unit) (fun _ => True) (fun _ E _ t9 => ((E = "java/lang/IndexOutOfBoundsException" ∧ grdX p0 q0 r0 Ms t a g9 = (nI 1, none)) ∨ (E = "java/lang/IllegalArgumentException" ∧ grdX p0 q0 r0 Ms t a g9 = (nI 2, none))) ∧ va_P (dC, dI) vwCl [((xa 7), .inl (dA 4, 8, .inr (.inr (.inr (.inr (fun k => some (rm k)))))))] t9.heap) A) 8 80 A := by
  refine vx_ofW (cc := cX1_gradePart) (maxL := 4) (ret := (some .int)) (by decide) rfl ?_
  intro p e s m args below meth c s₁ B hml hnoH hv
  obtain ⟨hav, hG, hsz, hP, hD, hR0, hAG, hRG⟩ := hv
  have hx := B.exec
  have hb := B.bytes
  have hr := B.returns
  have hts := atoms_spec (ws := (ws_ yX1_gradePart cX1_gradePart 4 (some .int))) B.pre
  have hts : ∀ w ∈ lw_all, w.before _ s = true := fun w h => hts w (List.mem_cons_of_mem _ h)
  have hown : s.vm.findClass RX1 = some m.cls := findClass_of_methodNamed B.named
  have hlocks := B.notSynchronized
  have hK := hG.K Z
  subst hsz
  have hS : va_S A s.heap s.heap [] := va_S.rf
  have hl := lv_entry ([.ref (xa 0), .int t, .int a, .int g9]) (n := 4) (Nat.le_of_ble_eq_true rfl)
  rw [show entryFrame m args 4 = entryFrame m ([.ref (xa 0), .int t, .int a, .int g9] : List Value).toArray 4 from by rw [hav], lg_entry_eq]
  generalize (lg_sl ([.ref (xa 0), .int t, .int a, .int g9]) ++ List.replicate (4 - (lg_sl ([.ref (xa 0), .int t, .int a, .int g9])).length) Slot.unset).toArray = ls at hl ⊢
  have hl : lv_has ls 4 [(0, .ref (xa 0)), (1, .int t), (2, .int a), (3, .int g9)] := hl
  generalize hQe : vx_MQ below _ _ _ s _ _ _ = Q
  change W p l e ({ frames := 9, cells := 8, slots := 80, locals := 540 } : Room) s m args below meth c s.heap [] 0 0 Q (F0 m 0 ls [])
  have hn := hAG.1
  have h5 := pow5 hn
  have hR1 := hAG.2.1
  refine lv_iconst (v := nI 2) hx hb dX1_gradePart_0 (by decide) ?_
  refine a_newa (D := (dC, dI)) (atype := .int) (N' := 2) (a0 := (2, .inl (fun _ => 0))) hx hb (hts _ q230) rfl hK hP hD hS hA 0 rfl (fun _ => ra_int) (fun _ => rfl) (by decide) (by decide) (by decide) (by first | decide | omega) (by first | decide | omega) dX1_gradePart_1 (fun na_1 H locs hP hD hS => ?_)
  have hP : va_P (dC, dI) vwCl [((xa 7), .inl (dA 4, 8, .inr (.inr (.inr (.inr (fun k => some (rm k))))))), (na_1, .inl (dA 0, 2, .inl (fun _ => 0)))] H := hP
  have hD : va_D A [((xa 7), .inl (dA 4, 8, .inr (.inr (.inr (.inr (fun k => some (rm k))))))), (na_1, .inl (dA 0, 2, .inl (fun _ => 0)))] := hD
  refine lv_dup hx hb dX1_gradePart_3 rfl ?_
  refine lv_iconst (v := nI 0) hx hb dX1_gradePart_4 (by decide) ?_
  refine lv_iload_n hx hb dX1_gradePart_5 rfl (lv_at hl 1 rfl) ?_
  refine a_iast hx hb hK hP hD hS 1 0 rfl rfl (by omega) (by omega) dX1_gradePart_6 (fun H locs hP hD hS => ?_)
  have hP : va_P (dC, dI) vwCl [((xa 7), .inl (dA 4, 8, .inr (.inr (.inr (.inr (fun k => some (rm k))))))), (na_1, .inl (dA 0, 2, .inl (upd (fun _ => 0) 0 t)))] H := hP
  have hD : va_D A [((xa 7), .inl (dA 4, 8, .inr (.inr (.inr (.inr (fun k => some (rm k))))))), (na_1, .inl (dA 0, 2, .inl (upd (fun _ => 0) 0 t)))] := hD
  refine lv_dup hx hb dX1_gradePart_7 rfl ?_
  refine lv_iconst (v := nI 1) hx hb dX1_gradePart_8 (by decide) ?_
  refine lv_iload_n hx hb dX1_gradePart_9 rfl (lv_at hl 2 rfl) ?_
  refine a_iast hx hb hK hP hD hS 1 0 rfl rfl (by omega) (by omega) dX1_gradePart_10 (fun H locs hP hD hS => ?_)
  have hP : va_P (dC, dI) vwCl [((xa 7), .inl (dA 4, 8, .inr (.inr (.inr (.inr (fun k => some (rm k))))))), (na_1, .inl (dA 0, 2, .inl (upd (upd (fun _ => 0) 0 t) 1 a)))] H := hP
  have hD : va_D A [((xa 7), .inl (dA 4, 8, .inr (.inr (.inr (.inr (fun k => some (rm k))))))), (na_1, .inl (dA 0, 2, .inl (upd (upd (fun _ => 0) 0 t) 1 a)))] := hD
  have hF9 := va_free (wc := []) hD hS (fun q h => hA q h) [] rfl
  refine x_v (wc := []) (wr := [((xa 7), .inl (dA 4, 8, .inr (.inr (.inr (.inr (fun k => some (rm k))))))), (na_1, .inl (dA 0, 2, .inl (upd (upd (fun _ => 0) 0 t) 1 a)))]) (vx_runS (As := [.ref na_1]) (rest := []) ⟨hx, hb, hml, hown, hts⟩ (x1_registers Z (va_A [] H.size) H.size (fun q h => Or.inr h) Y na_1 2 (upd (upd (fun _ => 0) 0 t) 1 a) (by decide)) (va_cwS 1 hts (lw_S q469 q470 q96 q471) rfl rfl rfl (by decide +kernel) ⟨Nat.le_of_ble_eq_true rfl, Nat.le_of_ble_eq_true rfl⟩) (gP_S hG hS (fun q _ h => hF9 q h) ⟨rfl, (RO.beside (wr := [(na_1, .inl (dA 0, 2, .inl (upd (upd (fun _ => 0) 0 t) 1 a)))]) hP hD [] [1] rfl rfl (by decide))⟩) rfl rfl hl.1 rfl (lv_room (Nat.le_of_ble_eq_true rfl)) dX1_gradePart_11 ⟨by first | decide | omega | (show _ ≤ (8 : Nat); omega), by first | decide | omega | (show _ ≤ (80 : Nat); omega)⟩) hP hD hS hA [] [0, 1] rfl rfl (by decide) (by decide) (fun E ce q9 u9 t9 H locs ht9 hp9 hb9 hz hP hS h1 h2 h3 => ?_) (fun u9 H locs hq hX hz hk hP hD hS => ?_)
  · have hD := hD.sub (ws' := [((xa 7), .inl (dA 4, 8, .inr (.inr (.inr (.inr (fun k => some (rm k))))))), (na_1, .inl (dA 0, 2, .inl (upd (upd (fun _ => 0) 0 t) 1 a)))]) [0, 1] (by decide) rfl
    have hP : va_P (dC, dI) vwCl [((xa 7), .inl (dA 4, 8, .inr (.inr (.inr (.inr (fun k => some (rm k))))))), (na_1, .inl (dA 0, 2, .inl (upd (upd (fun _ => 0) 0 t) 1 a)))] H := hP
    have hD : va_D A [((xa 7), .inl (dA 4, 8, .inr (.inr (.inr (.inr (fun k => some (rm k))))))), (na_1, .inl (dA 0, 2, .inl (upd (upd (fun _ => 0) 0 t) 1 a)))] := hD
    subst hb9
    subst hQe
    exact vx_out (fun x h => (hnoH x h).elim) hlocks h1 h2 h3 (fun t10 e10 _ => ⟨(), trivial, (⟨Or.inl (⟨rfl, grd_1 (rgs2.symm.trans hp9)⟩), by rw [e10]; exact hP.sub (ws' := [((xa 7), .inl (dA 4, 8, .inr (.inr (.inr (.inr (fun k => some (rm k)))))))]) [0] rfl⟩ : (_ ∧ _)), hS.F e10⟩) hS.2.2 (by first | decide | omega) (by first | decide | omega)
  have hrg : (rgB t && rgB a) = true := rgs2.symm.trans hq
  clear hq
  have hP : va_P (dC, dI) vwCl [((xa 7), .inl (dA 4, 8, .inr (.inr (.inr (.inr (fun k => some (rm k))))))), (na_1, .inl (dA 0, 2, .inl (upd (upd (fun _ => 0) 0 t) 1 a)))] H := hP
  have hD : va_D A [((xa 7), .inl (dA 4, 8, .inr (.inr (.inr (.inr (fun k => some (rm k))))))), (na_1, .inl (dA 0, 2, .inl (upd (upd (fun _ => 0) 0 t) 1 a)))] := hD
  have hP0 := hP.sub (ws' := [((xa 7), .inl (dA 4, 8, .inr (.inr (.inr (.inr (fun k => some (rm k)))))))]) [0] rfl
  have hD0 := hD.sub (ws' := [((xa 7), .inl (dA 4, 8, .inr (.inr (.inr (.inr (fun k => some (rm k)))))))]) [0] (by decide) rfl
  have h8jt := inB_nat (by decide) (show inB t (nI 0) (nI 7) = true from (Bool.and_eq_true_iff.mp hrg).1)
  have h8ja := inB_nat (by decide) (show inB a (nI 0) (nI 7) = true from (Bool.and_eq_true_iff.mp hrg).2)
  obtain ⟨jt, h9jt, e8jt⟩ := h8jt
  obtain ⟨ja, h9ja, e8ja⟩ := h8ja
  have h7jt : jt < 8 := by omega
  subst e8jt
  have h7ja : ja < 8 := by omega
  subst e8ja
  have hP := hP0
  have hD := hD0
  refine lv_iload_n hx hb dX1_gradePart_14 rfl (lv_at hl 3 rfl) ?_
  refine lv_i2l (v := g9.toInt64) hx hb dX1_gradePart_15 rfl ?_
  refine lv_lconst (v := 0) hx hb dX1_gradePart_16 rfl ?_
  refine lv_aload_n hx hb dX1_gradePart_17 rfl (lv_at hl 0 rfl) ?_
  refine va_get (D := (dC, dI)) (ci := 3) (v := .ref (xa 3)) (C := RX1) (T := TX1) (N := 9) hx hb hts in_X1 hown hK (hR0.up hS) 0 rfl rfl 2 (by decide) (hts _ q286) (fun _ h9 => h9) rfl dX1_gradePart_18 ?_
  refine va_getN (D := (dC, dI)) (ci := 4) (v := .ref ga) (C := RX4) (T := TX4) (N := 2) hx hb hts in_X4 hown hK (hR0.up hS) 1 rfl rfl 0 (by decide) (((va_Nw.warmF hG.1 (va_Nw.of rfl (Z.2.1 _ q240)))).use rfl) (fun _ h9 => h9) rfl dX1_gradePart_21 ?_
  refine va_getN (D := (dC, dI)) (ci := 1) (v := .int (nI (p0 + q0 + r0))) (C := RX5) (T := TX5) (N := 6) hx hb hts in_X5 hown hK (hR1.up hS) 0 rfl rfl 3 (by decide) (((va_Nw.warmF hG.1 (va_Nw.of rfl (Z.2.1 _ q209)))).use rfl) (fun _ h9 => h9) rfl dX1_gradePart_24 ?_
  refine lv_i2l (v := (nI (p0 + q0 + r0)).toInt64) hx hb dX1_gradePart_27 rfl ?_
  refine s_i (va_runS (As := [.long g9.toInt64, .long 0, .long ((nI (p0 + q0 + r0)).toInt64)]) (rest := []) ⟨hx, hb, hml, hown, hts⟩ (x1_isIn Z g9.toInt64 0 ((nI (p0 + q0 + r0)).toInt64)) (va_cwS 3 hts (lw_S q332 q333 q96 q334) rfl rfl rfl (by decide +kernel) ⟨Nat.le_of_ble_eq_true rfl, Nat.le_of_ble_eq_true rfl⟩) (gP_S hG hS (fun q _ h => h.elim) trivial) rfl rfl hl.1 rfl (lv_room (Nat.le_of_ble_eq_true rfl)) dX1_gradePart_28 ⟨by first | decide | omega | (show _ ≤ (8 : Nat); omega), by first | decide | omega | (show _ ≤ (80 : Nat); omega)⟩) ?_
  refine e_i (y := bI (inB g9 (nI 0) (nI (p0 + q0 + r0)))) (congrArg bI (inL_B g9 (nI 0) (nI (p0 + q0 + r0)))) ?_
  have hF9 := va_free (wc := []) hD hS (fun q h => hA q h) [] rfl
  refine x_v (wc := []) (wr := [((xa 7), .inl (dA 4, 8, .inr (.inr (.inr (.inr (fun k => some (rm k)))))))]) (vx_runS (As := [.int (bI (inB g9 (nI 0) (nI (p0 + q0 + r0))))]) (rest := []) ⟨hx, hb, hml, hown, hts⟩ (x1_argument Z (va_A [] H.size) H.size (fun q h => Or.inr h) (SS.st Y) (σ 51) (SS.st1 Y) (inB g9 (nI 0) (nI (p0 + q0 + r0)))) (va_cwS 1 hts (lw_S q335 q336 q96 q337) rfl rfl rfl (by decide +kernel) ⟨Nat.le_of_ble_eq_true rfl, Nat.le_of_ble_eq_true rfl⟩) (gP_S hG hS (fun q _ h => hF9 q h) rfl) rfl rfl hl.1 rfl (lv_room (Nat.le_of_ble_eq_true rfl)) dX1_gradePart_31 ⟨by first | decide | omega | (show _ ≤ (8 : Nat); omega), by first | decide | omega | (show _ ≤ (80 : Nat); omega)⟩) hP hD hS hA [] [0] rfl rfl (by decide) (by decide) (fun E ce q9 u9 t9 H locs ht9 hp9 hb9 hz hP hS h1 h2 h3 => ?_) (fun u9 H locs hq hX hz hk hP hD hS => ?_)
  · have hD := hD.sub (ws' := [((xa 7), .inl (dA 4, 8, .inr (.inr (.inr (.inr (fun k => some (rm k)))))))]) [0] (by decide) rfl
    have hP : va_P (dC, dI) vwCl [((xa 7), .inl (dA 4, 8, .inr (.inr (.inr (.inr (fun k => some (rm k)))))))] H := hP
    have hD : va_D A [((xa 7), .inl (dA 4, 8, .inr (.inr (.inr (.inr (fun k => some (rm k)))))))] := hD
    subst hb9
    subst hQe
    exact vx_out (fun x h => (hnoH x h).elim) hlocks h1 h2 h3 (fun t10 e10 _ => ⟨(), trivial, (⟨Or.inr (⟨rfl, grd_2 h7jt h7ja hp9⟩), by rw [e10]; exact hP.sub (ws' := [((xa 7), .inl (dA 4, 8, .inr (.inr (.inr (.inr (fun k => some (rm k)))))))]) [0] rfl⟩ : (_ ∧ _)), hS.F e10⟩) hS.2.2 (by first | decide | omega) (by first | decide | omega)
  have hg31 : (inB g9 (nI 0) (nI (p0 + q0 + r0))) = true := hq
  clear hq
  have hP : va_P (dC, dI) vwCl [((xa 7), .inl (dA 4, 8, .inr (.inr (.inr (.inr (fun k => some (rm k)))))))] H := hP
  have hD : va_D A [((xa 7), .inl (dA 4, 8, .inr (.inr (.inr (.inr (fun k => some (rm k)))))))] := hD
  obtain ⟨jg, h9jg, e8jg⟩ := inB_nat (by omega) hg31
  subst e8jg
  have h2g := (pow5 (show jg ≤ 5 by omega)).1
  refine lv_aload_n hx hb dX1_gradePart_34 rfl (lv_at hl 0 rfl) ?_
  refine lv_iload_n hx hb dX1_gradePart_35 rfl (lv_at hl 1 rfl) ?_
  refine lv_aload_n hx hb dX1_gradePart_36 rfl (lv_at hl 0 rfl) ?_
  refine va_get (D := (dC, dI)) (ci := 3) (v := .ref (xa 3)) (C := RX1) (T := TX1) (N := 9) hx hb hts in_X1 hown hK (hR0.up hS) 0 rfl rfl 2 (by decide) (hts _ q286) (fun _ h9 => h9) rfl dX1_gradePart_37 ?_
  refine va_getN (D := (dC, dI)) (ci := 4) (v := .ref (xa 7)) (C := RX4) (T := TX4) (N := 2) hx hb hts in_X4 hown hK (hR0.up hS) 1 rfl rfl 1 (by decide) (((va_Nw.warmF hG.1 (va_Nw.of rfl (Z.2.1 _ q243)))).use rfl) (fun _ h9 => h9) rfl dX1_gradePart_40 ?_
  refine lv_iload_n hx hb dX1_gradePart_43 rfl (lv_at hl 2 rfl) ?_
  refine a_aldq hx hb hK hP 0 4 rfl rfl (by omega) (by decide) dX1_gradePart_44 ?_
  refine e_v (y := .ref (rm ja)) (rfl) ?_
  have hR2 := hRG ja (by omega)
  refine lv_iconst (v := nI 0) hx hb dX1_gradePart_45 (by decide) ?_
  refine lv_iconst (v := nI 1) hx hb dX1_gradePart_46 (by decide) ?_
  refine lv_iload_n hx hb dX1_gradePart_47 rfl (lv_at hl 3 rfl) ?_
  refine lv_ishl hx hb dX1_gradePart_48 ?_
  refine e_i (y := nI (2 ^ jg)) (n_shl1 (by omega)) ?_
  obtain ⟨gr, Yg⟩ : ∃ g, SG (dC, dI) dA g s0 := ⟨_, SS.gr Y⟩
  have hF9 := va_free (wc := []) hD hS (fun q h => hA q h) [] rfl
  refine c_r (wr := [((xa 7), .inl (dA 4, 8, .inr (.inr (.inr (.inr (fun k => some (rm k)))))))]) (va_runV (As := [.int (nI 0), .int (nI (2 ^ jg))]) (rest := [.int (nI jt), .ref (xa 0)]) ⟨hx, hb, hml, hown, hts⟩ (x6_signed Z (va_A [] H.size) H.size (fun q h => Or.inr h) gr Yg (rm ja) (rr ja) (Ms ja) 0 (2 ^ jg) (sR ja (by omega)) (by decide) (by omega)) (cwV 2 hts (lw_V q756 q757 q758 q102 q759) rfl rfl rfl (by decide +kernel) ⟨Nat.le_of_ble_eq_true rfl, Nat.le_of_ble_eq_true rfl⟩) (gP_V (va_recv hK (hR2.up hS) (ci := 0) (q0 := 0) rfl rfl) hG hS (fun q _ h => hF9 q h) ⟨rfl, (hR2.to hS (fun q _ h => hF9 q h))⟩) rfl rfl hl.1 rfl (lv_room (Nat.le_of_ble_eq_true rfl)) dX1_gradePart_49 ⟨by first | decide | omega | (show _ ≤ (8 : Nat); omega), by first | decide | omega | (show _ ≤ (80 : Nat); omega)⟩) hP hD hS hA [] [0] rfl rfl (by decide) (by decide) (fun u9 ra9 H locs hq hX hz hk hP hD hS => ?_)
  obtain ⟨ra_2, rfl⟩ : ∃ z, z = ra9 := ⟨_, rfl⟩
  obtain ⟨mr_2, rfl⟩ : ∃ z, z = u9 := ⟨_, rfl⟩
  have hP : va_P (dC, dI) vwCl [((xa 7), .inl (dA 4, 8, .inr (.inr (.inr (.inr (fun k => some (rm k))))))), (ra_2, .inr (0, [.ref mr_2, .long ((redS ((Ms ja) 0) (sgdF 0 (2 ^ jg) (Ms ja))) 0)])), (mr_2, .inl (dA 1, 32, .inr (.inl (fun j => (redS ((Ms ja) 0) (sgdF 0 (2 ^ jg) (Ms ja))) (j + 1)))))] H := hP
  have hD : va_D A [((xa 7), .inl (dA 4, 8, .inr (.inr (.inr (.inr (fun k => some (rm k))))))), (ra_2, .inr (0, [.ref mr_2, .long ((redS ((Ms ja) 0) (sgdF 0 (2 ^ jg) (Ms ja))) 0)])), (mr_2, .inl (dA 1, 32, .inr (.inl (fun j => (redS ((Ms ja) 0) (sgdF 0 (2 ^ jg) (Ms ja))) (j + 1)))))] := hD
  have hM9 : ∀ i, i < 33 → (redS ((Ms ja) 0) (sgdF 0 (2 ^ jg) (Ms ja))) i = (redS (Ms ja 0) (grdR (2 ^ (p0 + q0 + r0)) jg (Ms ja))) i := red_ext (fun j hj => sgd_grd (pR ja (by omega)) hj)
  have e9 : ((redS ((Ms ja) 0) (sgdF 0 (2 ^ jg) (Ms ja))) 0) = ((redS (Ms ja 0) (grdR (2 ^ (p0 + q0 + r0)) jg (Ms ja))) 0) := hM9 0 (by decide)
  rw [e9] at hP hD; clear e9
  have hP := P_L hP 2 (fun j => (redS (Ms ja 0) (grdR (2 ^ (p0 + q0 + r0)) jg (Ms ja))) (j + 1)) rfl (fun j hj => hM9 (j + 1) (by omega))
  have hD := va_D.set (e := .inl (dA 1, 32, .inr (.inl (fun j => (redS (Ms ja 0) (grdR (2 ^ (p0 + q0 + r0)) jg (Ms ja))) (j + 1))))) hD (p := 2) rfl
  have hP : va_P (dC, dI) vwCl [((xa 7), .inl (dA 4, 8, .inr (.inr (.inr (.inr (fun k => some (rm k))))))), (ra_2, .inr (0, [.ref mr_2, .long ((redS (Ms ja 0) (grdR (2 ^ (p0 + q0 + r0)) jg (Ms ja))) 0)])), (mr_2, .inl (dA 1, 32, .inr (.inl (fun j => (redS (Ms ja 0) (grdR (2 ^ (p0 + q0 + r0)) jg (Ms ja))) (j + 1)))))] H := hP
  have hD : va_D A [((xa 7), .inl (dA 4, 8, .inr (.inr (.inr (.inr (fun k => some (rm k))))))), (ra_2, .inr (0, [.ref mr_2, .long ((redS (Ms ja 0) (grdR (2 ^ (p0 + q0 + r0)) jg (Ms ja))) 0)])), (mr_2, .inl (dA 1, 32, .inr (.inl (fun j => (redS (Ms ja 0) (grdR (2 ^ (p0 + q0 + r0)) jg (Ms ja))) (j + 1)))))] := hD
  clear hM9
  have hF9 := va_free (wc := [((xa 7), .inl (dA 4, 8, .inr (.inr (.inr (.inr (fun k => some (rm k)))))))]) hD hS (fun q h => hA q h) [0] rfl
  refine c_i (wr := [(ra_2, .inr (0, [.ref mr_2, .long ((redS (Ms ja 0) (grdR (2 ^ (p0 + q0 + r0)) jg (Ms ja))) 0)])), (mr_2, .inl (dA 1, 32, .inr (.inl (fun j => (redS (Ms ja 0) (grdR (2 ^ (p0 + q0 + r0)) jg (Ms ja))) (j + 1)))))]) (va_runV (As := [.int (nI jt), .ref ra_2]) (rest := []) ⟨hx, hb, hml, hown, hts⟩ (x1_store Z (va_A [((xa 7), .inl (dA 4, 8, .inr (.inr (.inr (.inr (fun k => some (rm k)))))))] H.size) H.size (fun q h => Or.inr h) Y xa tl ec ep ga (fun k => some (rm k)) jt ra_2 mr_2 (redS (Ms ja 0) (grdR (2 ^ (p0 + q0 + r0)) jg (Ms ja))) (by omega)) (cwV 2 hts (lw_V q731 q733 qs6 q96 q734) rfl rfl rfl (by decide +kernel) ⟨Nat.le_of_ble_eq_true rfl, Nat.le_of_ble_eq_true rfl⟩) (gP_V (va_recv hK (hR0.up hS) (ci := 3) (q0 := 0) rfl rfl) hG hS (fun q _ h => hF9 q h) ⟨rfl, (hP.sub (ws' := [((xa 7), .inl (dA 4, 8, .inr (.inr (.inr (.inr (fun k => some (rm k)))))))]) [0] rfl), (hD.sub (ws' := [((xa 7), .inl (dA 4, 8, .inr (.inr (.inr (.inr (fun k => some (rm k)))))))]) [0] (by decide) rfl).self, (hR0.to hS (fun q _ h => hF9 q h)), (RO.beside (wr := [(ra_2, .inr (0, [.ref mr_2, .long ((redS (Ms ja 0) (grdR (2 ^ (p0 + q0 + r0)) jg (Ms ja))) 0)])), (mr_2, .inl (dA 1, 32, .inr (.inl (fun j => (redS (Ms ja 0) (grdR (2 ^ (p0 + q0 + r0)) jg (Ms ja))) (j + 1)))))]) hP hD [0] [1, 2] rfl rfl (by decide))⟩) rfl rfl hl.1 rfl (lv_room (Nat.le_of_ble_eq_true rfl)) dX1_gradePart_52 ⟨by first | decide | omega | (show _ ≤ (8 : Nat); omega), by first | decide | omega | (show _ ≤ (80 : Nat); omega)⟩) hP hD hS hA [0] [1, 2] rfl rfl (by decide) (by decide) (fun r9 u9 H locs hq hX hz hk hP hD hS => ?_)
  obtain ⟨r_3, rfl⟩ : ∃ z, z = r9 := ⟨_, rfl⟩
  subst hq
  have hP : va_P (dC, dI) vwCl [(ra_2, .inr (0, [.ref mr_2, .long ((redS (Ms ja 0) (grdR (2 ^ (p0 + q0 + r0)) jg (Ms ja))) 0)])), (mr_2, .inl (dA 1, 32, .inr (.inl (fun j => (redS (Ms ja 0) (grdR (2 ^ (p0 + q0 + r0)) jg (Ms ja))) (j + 1))))), ((xa 7), .inl (dA 4, 8, .inr (.inr (.inr (.inr (va_up (fun k => some (rm k)) jt (some ra_2)))))))] H := hP
  have hD : va_D A [(ra_2, .inr (0, [.ref mr_2, .long ((redS (Ms ja 0) (grdR (2 ^ (p0 + q0 + r0)) jg (Ms ja))) 0)])), (mr_2, .inl (dA 1, 32, .inr (.inl (fun j => (redS (Ms ja 0) (grdR (2 ^ (p0 + q0 + r0)) jg (Ms ja))) (j + 1))))), ((xa 7), .inl (dA 4, 8, .inr (.inr (.inr (.inr (va_up (fun k => some (rm k)) jt (some ra_2)))))))] := hD
  have e8 : rg (nI jt) = jt := rg_n (by omega)
  subst hQe
  refine vx_ret ?_
  refine W.widen (k := 8) (n := 80) (by first | decide | omega) (by first | decide | omega) ?_
  exact W.iret (v := nI (trmS (redS (Ms ja 0) (grdR (2 ^ (p0 + q0 + r0)) jg (Ms ja))))) hx hb hr (fun tz ht hW => ⟨⟨_, (ra_2, mr_2, redS (Ms ja 0) (grdR (2 ^ (p0 + q0 + r0)) jg (Ms ja))), rfl, ⟨grd_ok h7jt h7ja h9jg hn, rfl⟩, B1_at ht (by rw [e8]; exact hP.sub [2] rfl) (by rw [e8]; exact hD.sub [2] (by decide) rfl) (⟨hP.sub [0, 1] rfl, Or.inl ⟨fresh_of hD hAf 2 0 rfl rfl (by decide), fresh_of hD hAf 2 1 rfl rfl (by decide)⟩⟩)⟩, hS.F ht⟩) hS.2.2 dX1_gradePart_55
set_option maxHeartbeats 4000000 in
theorem x1_scale {l : Launch} {dC : Nat → ClassId} {dI : Nat → Nat → Nat} {dA : Nat → ClassId} {s0 : State} {b0 : Addr} (Z : Z0 l dC dI dA s0 b0) (A : Nat → Prop) (sz : Nat) (hA : ∀ q : Nat, sz ≤ q → A q) {σ : Nat → Nat} (Y : SS (dC, dI) dA σ s0) (xa : Nat → Nat) (tl : Nat) (ec ep : Int32) (ga sg : Nat) (sr : Nat → Nat) (p0 q0 r0 : Nat) (rm rr : Nat → Nat) (Ms : Nat → MV) (t a x9 y9 : Int32) (sR : ∀ k, k < 8 → MSm (Ms k)) (pR : ∀ k, k < 8 → MSp (2 ^ (p0 + q0 + r0)) (Ms k)) (hAf : ∀ q, A q → q = xa 7 ∨ sz ≤ q) : vx_Met l yX1_scale (wsW_ yX1_scale cX1_scale 6 (some .int) [((49 : Nat), (71 : Nat), (72 : Nat), (179 : Nat))]) ({ frames := 9, cells := 8, slots := 90, locals := 540 } : Room) (gP [.ref (xa 0), .int t, .int a, .int x9, .int y9] s0 A (fun H => H.size = sz ∧ va_P (dC, dI) vwCl [((xa 7), .inl (dA 4, 8, .inr (.inr (.inr (.inr (fun k => some (rm k)))))))] H ∧ va_D A [((xa 7), .inl (dA 4, 8, .inr (.inr (.inr (.inr (fun k => some (rm k)))))))] ∧ RO A (dC, dI) [((xa 0), .inr (3, xFs xa tl ec ep)), ((xa 3), .inr (4, [.ref ga, .ref (xa 7)]))] H ∧ AG A (dC, dI) dA ga sg sr p0 q0 r0 H ∧ RG A (dC, dI) dA rm rr Ms H)) (va_Qi (S := Nat × Nat × MV) (fun r9 u => sclX Ms t a x9 y9 = (nI 0, some u.2.2) ∧ r9 = nI (trmS u.2.2)) (B1 (dC, dI) A (fun u => [(xa 7, .inl (dA 4, 8, .inr (.inr (.inr (.inr (va_up (fun k => some (rm k)) (rg t) (some u.1)))))))]) (fun u H => NM (dC, dI) dA σ rm rr Ms sz u H)) A) (vx_X (S := Unit) (fun _ => True) (fun _ E _ t9 => ((E = "java/lang/IndexOutOfBoundsException" ∧ sclX Ms t a x9 y9 = (nI 1, none)) ∨ (E = "java/lang/IllegalArgumentException" ∧ sclX Ms t a x9 y9 = (nI 2, none)) ∨ (E = "java/lang/ArithmeticException" ∧ sclX Ms t a x9 y9 = (nI 3, none))) ∧ va_P (dC, dI) vwCl [((xa 7), .inl (dA 4, 8, .inr (.inr (.inr (.inr (fun k => some (rm k)))))))] t9.heap) A) 8 90 A := by
  refine vx_ofWH (cc := cX1_scale) (maxL := 6) (ret := (some .int)) (by decide) rfl ?_
  intro p e s m args below meth c s₁ B hml hv
  obtain ⟨hav, hG, hsz, hP, hD, hR0, hAG, hRG⟩ := hv
  have hx := B.exec
  have hb := B.bytes
  have hr := B.returns
  have hts := atoms_spec (ws := (wsW_ yX1_scale cX1_scale 6 (some .int) [((49 : Nat), (71 : Nat), (72 : Nat), (179 : Nat))])) B.pre
  have hxt : c.exceptionTable.toList = [⟨49, 71, 72, 179⟩] := vx_table (x := yX1_scale) (y := yX1_scale) B (hts _ List.mem_cons_self)
  have hts : ∀ w ∈ lw_all, w.before _ s = true := fun w h => hts w (List.mem_cons_of_mem _ h)
  have hown : s.vm.findClass RX1 = some m.cls := findClass_of_methodNamed B.named
  have hlocks := B.notSynchronized
  have hK := hG.K Z
  subst hsz
  have hS : va_S A s.heap s.heap [] := va_S.rf
  have hl := lv_entry ([.ref (xa 0), .int t, .int a, .int x9, .int y9]) (n := 6) (Nat.le_of_ble_eq_true rfl)
  rw [show entryFrame m args 6 = entryFrame m ([.ref (xa 0), .int t, .int a, .int x9, .int y9] : List Value).toArray 6 from by rw [hav], lg_entry_eq]
  generalize (lg_sl ([.ref (xa 0), .int t, .int a, .int x9, .int y9]) ++ List.replicate (6 - (lg_sl ([.ref (xa 0), .int t, .int a, .int x9, .int y9])).length) Slot.unset).toArray = ls at hl ⊢
  have hl : lv_has ls 6 [(0, .ref (xa 0)), (1, .int t), (2, .int a), (3, .int x9), (4, .int y9)] := hl
  generalize hQe : vx_MQ below _ _ _ s _ _ _ = Q
  change W p l e ({ frames := 9, cells := 8, slots := 90, locals := 540 } : Room) s m args below meth c s.heap [] 0 0 Q (F0 m 0 ls [])
  have hn := hAG.1
  have h5 := pow5 hn
  have hR1 := hAG.2.1
  refine lv_iconst (v := nI 2) hx hb dX1_scale_0 (by decide) ?_
  refine a_newa (D := (dC, dI)) (atype := .int) (N' := 2) (a0 := (2, .inl (fun _ => 0))) hx hb (hts _ q230) rfl hK hP hD hS hA 0 rfl (fun _ => ra_int) (fun _ => rfl) (by decide) (by decide) (by decide) (by first | decide | omega) (by first | decide | omega) dX1_scale_1 (fun na_1 H locs hP hD hS => ?_)
  have hP : va_P (dC, dI) vwCl [((xa 7), .inl (dA 4, 8, .inr (.inr (.inr (.inr (fun k => some (rm k))))))), (na_1, .inl (dA 0, 2, .inl (fun _ => 0)))] H := hP
  have hD : va_D A [((xa 7), .inl (dA 4, 8, .inr (.inr (.inr (.inr (fun k => some (rm k))))))), (na_1, .inl (dA 0, 2, .inl (fun _ => 0)))] := hD
  refine lv_dup hx hb dX1_scale_3 rfl ?_
  refine lv_iconst (v := nI 0) hx hb dX1_scale_4 (by decide) ?_
  refine lv_iload_n hx hb dX1_scale_5 rfl (lv_at hl 1 rfl) ?_
  refine a_iast hx hb hK hP hD hS 1 0 rfl rfl (by omega) (by omega) dX1_scale_6 (fun H locs hP hD hS => ?_)
  have hP : va_P (dC, dI) vwCl [((xa 7), .inl (dA 4, 8, .inr (.inr (.inr (.inr (fun k => some (rm k))))))), (na_1, .inl (dA 0, 2, .inl (upd (fun _ => 0) 0 t)))] H := hP
  have hD : va_D A [((xa 7), .inl (dA 4, 8, .inr (.inr (.inr (.inr (fun k => some (rm k))))))), (na_1, .inl (dA 0, 2, .inl (upd (fun _ => 0) 0 t)))] := hD
  refine lv_dup hx hb dX1_scale_7 rfl ?_
  refine lv_iconst (v := nI 1) hx hb dX1_scale_8 (by decide) ?_
  refine lv_iload_n hx hb dX1_scale_9 rfl (lv_at hl 2 rfl) ?_
  refine a_iast hx hb hK hP hD hS 1 0 rfl rfl (by omega) (by omega) dX1_scale_10 (fun H locs hP hD hS => ?_)
  have hP : va_P (dC, dI) vwCl [((xa 7), .inl (dA 4, 8, .inr (.inr (.inr (.inr (fun k => some (rm k))))))), (na_1, .inl (dA 0, 2, .inl (upd (upd (fun _ => 0) 0 t) 1 a)))] H := hP
  have hD : va_D A [((xa 7), .inl (dA 4, 8, .inr (.inr (.inr (.inr (fun k => some (rm k))))))), (na_1, .inl (dA 0, 2, .inl (upd (upd (fun _ => 0) 0 t) 1 a)))] := hD
  have hF9 := va_free (wc := []) hD hS (fun q h => hA q h) [] rfl
  refine x_v (wc := []) (wr := [((xa 7), .inl (dA 4, 8, .inr (.inr (.inr (.inr (fun k => some (rm k))))))), (na_1, .inl (dA 0, 2, .inl (upd (upd (fun _ => 0) 0 t) 1 a)))]) (vx_runS (As := [.ref na_1]) (rest := []) ⟨hx, hb, hml, hown, hts⟩ (x1_registers Z (va_A [] H.size) H.size (fun q h => Or.inr h) Y na_1 2 (upd (upd (fun _ => 0) 0 t) 1 a) (by decide)) (va_cwS 1 hts (lw_S q469 q470 q96 q471) rfl rfl rfl (by decide +kernel) ⟨Nat.le_of_ble_eq_true rfl, Nat.le_of_ble_eq_true rfl⟩) (gP_S hG hS (fun q _ h => hF9 q h) ⟨rfl, (RO.beside (wr := [(na_1, .inl (dA 0, 2, .inl (upd (upd (fun _ => 0) 0 t) 1 a)))]) hP hD [] [1] rfl rfl (by decide))⟩) rfl rfl hl.1 rfl (lv_room (Nat.le_of_ble_eq_true rfl)) dX1_scale_11 ⟨by first | decide | omega | (show _ ≤ (8 : Nat); omega), by first | decide | omega | (show _ ≤ (90 : Nat); omega)⟩) hP hD hS hA [] [0, 1] rfl rfl (by decide) (by decide) (fun E ce q9 u9 t9 H locs ht9 hp9 hb9 hz hP hS h1 h2 h3 => ?_) (fun u9 H locs hq hX hz hk hP hD hS => ?_)
  · have hD := hD.sub (ws' := [((xa 7), .inl (dA 4, 8, .inr (.inr (.inr (.inr (fun k => some (rm k))))))), (na_1, .inl (dA 0, 2, .inl (upd (upd (fun _ => 0) 0 t) 1 a)))]) [0, 1] (by decide) rfl
    have hP : va_P (dC, dI) vwCl [((xa 7), .inl (dA 4, 8, .inr (.inr (.inr (.inr (fun k => some (rm k))))))), (na_1, .inl (dA 0, 2, .inl (upd (upd (fun _ => 0) 0 t) 1 a)))] H := hP
    have hD : va_D A [((xa 7), .inl (dA 4, 8, .inr (.inr (.inr (.inr (fun k => some (rm k))))))), (na_1, .inl (dA 0, 2, .inl (upd (upd (fun _ => 0) 0 t) 1 a)))] := hD
    subst hb9
    subst hQe
    exact vx_outP hown hlocks (by rw [hxt]; exact (List.forall_mem_cons.mpr ⟨Or.inl (by decide), (fun _ h => nomatch h)⟩)) h1 h2 h3 (fun t10 e10 _ => ⟨(), trivial, (⟨Or.inl (⟨rfl, scl_1 (rgs2.symm.trans hp9)⟩), by rw [e10]; exact hP.sub (ws' := [((xa 7), .inl (dA 4, 8, .inr (.inr (.inr (.inr (fun k => some (rm k)))))))]) [0] rfl⟩ : (_ ∧ _)), hS.F e10⟩) hS.2.2 (by first | decide | omega) (by first | decide | omega)
  have hrg : (rgB t && rgB a) = true := rgs2.symm.trans hq
  clear hq
  have hP : va_P (dC, dI) vwCl [((xa 7), .inl (dA 4, 8, .inr (.inr (.inr (.inr (fun k => some (rm k))))))), (na_1, .inl (dA 0, 2, .inl (upd (upd (fun _ => 0) 0 t) 1 a)))] H := hP
  have hD : va_D A [((xa 7), .inl (dA 4, 8, .inr (.inr (.inr (.inr (fun k => some (rm k))))))), (na_1, .inl (dA 0, 2, .inl (upd (upd (fun _ => 0) 0 t) 1 a)))] := hD
  have hP0 := hP.sub (ws' := [((xa 7), .inl (dA 4, 8, .inr (.inr (.inr (.inr (fun k => some (rm k)))))))]) [0] rfl
  have hD0 := hD.sub (ws' := [((xa 7), .inl (dA 4, 8, .inr (.inr (.inr (.inr (fun k => some (rm k)))))))]) [0] (by decide) rfl
  have h8jt := inB_nat (by decide) (show inB t (nI 0) (nI 7) = true from (Bool.and_eq_true_iff.mp hrg).1)
  have h8ja := inB_nat (by decide) (show inB a (nI 0) (nI 7) = true from (Bool.and_eq_true_iff.mp hrg).2)
  obtain ⟨jt, h9jt, e8jt⟩ := h8jt
  obtain ⟨ja, h9ja, e8ja⟩ := h8ja
  have h7jt : jt < 8 := by omega
  subst e8jt
  have h7ja : ja < 8 := by omega
  subst e8ja
  have hP := hP0
  have hD := hD0
  refine lv_iload_n hx hb dX1_scale_14 rfl (lv_at hl 3 rfl) ?_
  refine lv_i2l (v := x9.toInt64) hx hb dX1_scale_15 rfl ?_
  refine lv_ldc2 hx hb hown (hts _ q849) dX1_scale_16 ?_
  refine lv_ldc2 hx hb hown (hts _ q500) dX1_scale_19 ?_
  refine s_i (va_runS (As := [.long x9.toInt64, .long (-10000 : Int64), .long (10000 : Int64)]) (rest := []) ⟨hx, hb, hml, hown, hts⟩ (x1_isIn Z x9.toInt64 (-10000 : Int64) (10000 : Int64)) (va_cwS 3 hts (lw_S q332 q333 q96 q334) rfl rfl rfl (by decide +kernel) ⟨Nat.le_of_ble_eq_true rfl, Nat.le_of_ble_eq_true rfl⟩) (gP_S hG hS (fun q _ h => h.elim) trivial) rfl rfl hl.1 rfl (lv_room (Nat.le_of_ble_eq_true rfl)) dX1_scale_22 ⟨by first | decide | omega | (show _ ≤ (8 : Nat); omega), by first | decide | omega | (show _ ≤ (90 : Nat); omega)⟩) ?_
  refine e_i (y := bI (inB x9 (-10000) (nI 10000))) (congrArg bI (inL_B x9 (-10000) (nI 10000))) ?_
  refine lv_if_eq (tgt := 45) hx hb dX1_scale_25 (by decide) (fun c_25 => ?_) (fun c_25 => ?_)
  · have hbad : (inB x9 (-10000) (nI 10000) && inB y9 (nI 1) (nI 10000)) = false := by rw [bI_0 c_25, Bool.false_and]
    refine lv_iconst (v := nI 0) hx hb dX1_scale_45 (by decide) ?_
    have hF9 := va_free (wc := []) hD hS (fun q h => hA q h) [] rfl
    refine x_v (wc := []) (wr := [((xa 7), .inl (dA 4, 8, .inr (.inr (.inr (.inr (fun k => some (rm k)))))))]) (vx_runS (As := [.int (nI 0)]) (rest := []) ⟨hx, hb, hml, hown, hts⟩ (x1_argument Z (va_A [] H.size) H.size (fun q h => Or.inr h) (SS.st Y) (σ 51) (SS.st1 Y) false) (va_cwS 1 hts (lw_S q335 q336 q96 q337) rfl rfl rfl (by decide +kernel) ⟨Nat.le_of_ble_eq_true rfl, Nat.le_of_ble_eq_true rfl⟩) (gP_S hG hS (fun q _ h => hF9 q h) rfl) rfl rfl hl.1 rfl (lv_room (Nat.le_of_ble_eq_true rfl)) dX1_scale_46 ⟨by first | decide | omega | (show _ ≤ (8 : Nat); omega), by first | decide | omega | (show _ ≤ (90 : Nat); omega)⟩) hP hD hS hA [] [0] rfl rfl (by decide) (by decide) (fun E ce q9 u9 t9 H locs ht9 hp9 hb9 hz hP hS h1 h2 h3 => ?_) (fun u9 H locs hq hX hz hk hP hD hS => ?_)
    · have hD := hD.sub (ws' := [((xa 7), .inl (dA 4, 8, .inr (.inr (.inr (.inr (fun k => some (rm k)))))))]) [0] (by decide) rfl
      have hP : va_P (dC, dI) vwCl [((xa 7), .inl (dA 4, 8, .inr (.inr (.inr (.inr (fun k => some (rm k)))))))] H := hP
      have hD : va_D A [((xa 7), .inl (dA 4, 8, .inr (.inr (.inr (.inr (fun k => some (rm k)))))))] := hD
      subst hb9
      subst hQe
      exact vx_outP hown hlocks (by rw [hxt]; exact (List.forall_mem_cons.mpr ⟨Or.inl (by decide), (fun _ h => nomatch h)⟩)) h1 h2 h3 (fun t10 e10 _ => ⟨(), trivial, (⟨Or.inr (Or.inl (⟨rfl, scl_2 h7jt h7ja hbad⟩)), by rw [e10]; exact hP.sub (ws' := [((xa 7), .inl (dA 4, 8, .inr (.inr (.inr (.inr (fun k => some (rm k)))))))]) [0] rfl⟩ : (_ ∧ _)), hS.F e10⟩) hS.2.2 (by first | decide | omega) (by first | decide | omega)
    exact absurd hq (by decide)
  · have hx9 := bI_1 c_25
    refine lv_iload hx hb dX1_scale_28 (lv_at hl 4 rfl) ?_
    refine lv_i2l (v := y9.toInt64) hx hb dX1_scale_30 rfl ?_
    refine lv_lconst (v := 1) hx hb dX1_scale_31 rfl ?_
    refine lv_ldc2 hx hb hown (hts _ q500) dX1_scale_32 ?_
    refine s_i (va_runS (As := [.long y9.toInt64, .long 1, .long (10000 : Int64)]) (rest := []) ⟨hx, hb, hml, hown, hts⟩ (x1_isIn Z y9.toInt64 1 (10000 : Int64)) (va_cwS 3 hts (lw_S q332 q333 q96 q334) rfl rfl rfl (by decide +kernel) ⟨Nat.le_of_ble_eq_true rfl, Nat.le_of_ble_eq_true rfl⟩) (gP_S hG hS (fun q _ h => h.elim) trivial) rfl rfl hl.1 rfl (lv_room (Nat.le_of_ble_eq_true rfl)) dX1_scale_35 ⟨by first | decide | omega | (show _ ≤ (8 : Nat); omega), by first | decide | omega | (show _ ≤ (90 : Nat); omega)⟩) ?_
    refine e_i (y := bI (inB y9 (nI 1) (nI 10000))) (congrArg bI (inL_B y9 (nI 1) (nI 10000))) ?_
    refine lv_if_eq (tgt := 45) hx hb dX1_scale_38 (by decide) (fun c_38 => ?_) (fun c_38 => ?_)
    · have hbad : (inB x9 (-10000) (nI 10000) && inB y9 (nI 1) (nI 10000)) = false := by rw [bI_0 c_38, Bool.and_false]
      refine lv_iconst (v := nI 0) hx hb dX1_scale_45 (by decide) ?_
      have hF9 := va_free (wc := []) hD hS (fun q h => hA q h) [] rfl
      refine x_v (wc := []) (wr := [((xa 7), .inl (dA 4, 8, .inr (.inr (.inr (.inr (fun k => some (rm k)))))))]) (vx_runS (As := [.int (nI 0)]) (rest := []) ⟨hx, hb, hml, hown, hts⟩ (x1_argument Z (va_A [] H.size) H.size (fun q h => Or.inr h) (SS.st Y) (σ 51) (SS.st1 Y) false) (va_cwS 1 hts (lw_S q335 q336 q96 q337) rfl rfl rfl (by decide +kernel) ⟨Nat.le_of_ble_eq_true rfl, Nat.le_of_ble_eq_true rfl⟩) (gP_S hG hS (fun q _ h => hF9 q h) rfl) rfl rfl hl.1 rfl (lv_room (Nat.le_of_ble_eq_true rfl)) dX1_scale_46 ⟨by first | decide | omega | (show _ ≤ (8 : Nat); omega), by first | decide | omega | (show _ ≤ (90 : Nat); omega)⟩) hP hD hS hA [] [0] rfl rfl (by decide) (by decide) (fun E ce q9 u9 t9 H locs ht9 hp9 hb9 hz hP hS h1 h2 h3 => ?_) (fun u9 H locs hq hX hz hk hP hD hS => ?_)
      · have hD := hD.sub (ws' := [((xa 7), .inl (dA 4, 8, .inr (.inr (.inr (.inr (fun k => some (rm k)))))))]) [0] (by decide) rfl
        have hP : va_P (dC, dI) vwCl [((xa 7), .inl (dA 4, 8, .inr (.inr (.inr (.inr (fun k => some (rm k)))))))] H := hP
        have hD : va_D A [((xa 7), .inl (dA 4, 8, .inr (.inr (.inr (.inr (fun k => some (rm k)))))))] := hD
        subst hb9
        subst hQe
        exact vx_outP hown hlocks (by rw [hxt]; exact (List.forall_mem_cons.mpr ⟨Or.inl (by decide), (fun _ h => nomatch h)⟩)) h1 h2 h3 (fun t10 e10 _ => ⟨(), trivial, (⟨Or.inr (Or.inl (⟨rfl, scl_2 h7jt h7ja hbad⟩)), by rw [e10]; exact hP.sub (ws' := [((xa 7), .inl (dA 4, 8, .inr (.inr (.inr (.inr (fun k => some (rm k)))))))]) [0] rfl⟩ : (_ ∧ _)), hS.F e10⟩) hS.2.2 (by first | decide | omega) (by first | decide | omega)
      exact absurd hq (by decide)
    · have hy9 := bI_1 c_38
      refine lv_iconst (v := nI 1) hx hb dX1_scale_41 (by decide) ?_
      refine lv_goto (tgt := 46) hx hb dX1_scale_42 (by decide) ?_
      have hF9 := va_free (wc := []) hD hS (fun q h => hA q h) [] rfl
      refine x_v (wc := []) (wr := [((xa 7), .inl (dA 4, 8, .inr (.inr (.inr (.inr (fun k => some (rm k)))))))]) (vx_runS (As := [.int (nI 1)]) (rest := []) ⟨hx, hb, hml, hown, hts⟩ (x1_argument Z (va_A [] H.size) H.size (fun q h => Or.inr h) (SS.st Y) (σ 51) (SS.st1 Y) true) (va_cwS 1 hts (lw_S q335 q336 q96 q337) rfl rfl rfl (by decide +kernel) ⟨Nat.le_of_ble_eq_true rfl, Nat.le_of_ble_eq_true rfl⟩) (gP_S hG hS (fun q _ h => hF9 q h) rfl) rfl rfl hl.1 rfl (lv_room (Nat.le_of_ble_eq_true rfl)) dX1_scale_46 ⟨by first | decide | omega | (show _ ≤ (8 : Nat); omega), by first | decide | omega | (show _ ≤ (90 : Nat); omega)⟩) hP hD hS hA [] [0] rfl rfl (by decide) (by decide) (fun E ce q9 u9 t9 H locs ht9 hp9 hb9 hz hP hS h1 h2 h3 => ?_) (fun u9 H locs hq hX hz hk hP hD hS => ?_)
      · have hD := hD.sub (ws' := [((xa 7), .inl (dA 4, 8, .inr (.inr (.inr (.inr (fun k => some (rm k)))))))]) [0] (by decide) rfl
        have hP : va_P (dC, dI) vwCl [((xa 7), .inl (dA 4, 8, .inr (.inr (.inr (.inr (fun k => some (rm k)))))))] H := hP
        have hD : va_D A [((xa 7), .inl (dA 4, 8, .inr (.inr (.inr (.inr (fun k => some (rm k)))))))] := hD
        exact absurd hp9 (by decide)
      have hg46 : true = true := hq
      clear hq
      have hP : va_P (dC, dI) vwCl [((xa 7), .inl (dA 4, 8, .inr (.inr (.inr (.inr (fun k => some (rm k)))))))] H := hP
      have hD : va_D A [((xa 7), .inl (dA 4, 8, .inr (.inr (.inr (.inr (fun k => some (rm k)))))))] := hD
      refine lv_aload_n hx hb dX1_scale_49 rfl (lv_at hl 0 rfl) ?_
      refine lv_iload_n hx hb dX1_scale_50 rfl (lv_at hl 1 rfl) ?_
      refine lv_aload_n hx hb dX1_scale_51 rfl (lv_at hl 0 rfl) ?_
      refine va_get (D := (dC, dI)) (ci := 3) (v := .ref (xa 3)) (C := RX1) (T := TX1) (N := 9) hx hb hts in_X1 hown hK (hR0.up hS) 0 rfl rfl 2 (by decide) (hts _ q286) (fun _ h9 => h9) rfl dX1_scale_52 ?_
      refine va_getN (D := (dC, dI)) (ci := 4) (v := .ref (xa 7)) (C := RX4) (T := TX4) (N := 2) hx hb hts in_X4 hown hK (hR0.up hS) 1 rfl rfl 1 (by decide) (((va_Nw.warmF hG.1 (va_Nw.of rfl (Z.2.1 _ q243)))).use rfl) (fun _ h9 => h9) rfl dX1_scale_55 ?_
      refine lv_iload_n hx hb dX1_scale_58 rfl (lv_at hl 2 rfl) ?_
      refine a_aldq hx hb hK hP 0 4 rfl rfl (by omega) (by decide) dX1_scale_59 ?_
      refine e_v (y := .ref (rm ja)) (rfl) ?_
      have hR2 := hRG ja (by omega)
      refine lv_iload_n hx hb dX1_scale_60 rfl (lv_at hl 3 rfl) ?_
      refine lv_i2l (v := x9.toInt64) hx hb dX1_scale_61 rfl ?_
      refine lv_iload hx hb dX1_scale_62 (lv_at hl 4 rfl) ?_
      refine lv_i2l (v := y9.toInt64) hx hb dX1_scale_64 rfl ?_
      have hF9 := va_free (wc := []) hD hS (fun q h => hA q h) [] rfl
      refine x_r (wc := []) (wr := [((xa 7), .inl (dA 4, 8, .inr (.inr (.inr (.inr (fun k => some (rm k)))))))]) (vx_runV (As := [.long x9.toInt64, .long y9.toInt64]) (rest := [.int (nI jt), .ref (xa 0)]) ⟨hx, hb, hml, hown, hts⟩ (x6_times Z (va_A [] H.size) H.size (fun q h => Or.inr h) Y (rm ja) (rr ja) (Ms ja) x9.toInt64 y9.toInt64 (sm_of hx9 (by decide) (by decide)) (sm_of hy9 (by decide) (by decide)) (nz_of hy9) (sR ja (by omega))) (cwV 2 hts (lw_V q797 q728 q729 q102 q730) rfl rfl rfl (by decide +kernel) ⟨Nat.le_of_ble_eq_true rfl, Nat.le_of_ble_eq_true rfl⟩) (gP_V (va_recv hK (hR2.up hS) (ci := 0) (q0 := 0) rfl rfl) hG hS (fun q _ h => hF9 q h) ⟨rfl, (hR2.to hS (fun q _ h => hF9 q h))⟩) rfl rfl hl.1 rfl (lv_room (Nat.le_of_ble_eq_true rfl)) dX1_scale_65 ⟨by first | decide | omega | (show _ ≤ (8 : Nat); omega), by first | decide | omega | (show _ ≤ (90 : Nat); omega)⟩) hP hD hS hA [] [0] rfl rfl (by decide) (by decide) (fun E ce q9 u9 t9 H locs ht9 hp9 hb9 hz hP hS h1 h2 h3 => ?_) (fun u9 ra9 H locs hq hX hz hk hP hD hS => ?_)
      · have hD := hD.sub (ws' := [((xa 7), .inl (dA 4, 8, .inr (.inr (.inr (.inr (fun k => some (rm k)))))))]) [0] (by decide) rfl
        have hP : va_P (dC, dI) vwCl [((xa 7), .inl (dA 4, 8, .inr (.inr (.inr (.inr (fun k => some (rm k)))))))] H := hP
        have hD : va_D A [((xa 7), .inl (dA 4, 8, .inr (.inr (.inr (.inr (fun k => some (rm k)))))))] := hD
        subst hb9
        refine vx_catch (name := "BladeAlgebra$Unfit") (E := "BladeAlgebra$Unfit") (ce := ce) hown [] ⟨49, 71, 72, 179⟩ [] hxt (fun _ h => nomatch h) (by decide) (by decide) (hts _ q468) (castZ Z hG q523) h1 h2 h3 ?_
        have hpU := hp9
        refine lv_astore (lv' := [(5, .ref q9), (0, .ref (xa 0)), (1, .int (nI jt)), (2, .int (nI ja)), (3, .int x9), (4, .int y9)]) hx hb dX1_scale_72 hl (by decide) rfl (fun ls hl => ?_)
        have hF9 := va_free (wc := []) hD hS (fun q h => hA q h) [] rfl
        refine c_r (wr := [((xa 7), .inl (dA 4, 8, .inr (.inr (.inr (.inr (fun k => some (rm k)))))))]) (va_runS (As := []) (rest := []) ⟨hx, hb, hml, hown, hts⟩ (x1_large Z (va_A [] H.size) H.size (fun q h => Or.inr h) Y) (va_cwS 0 hts (lw_S q562 q563 q96 q564) rfl rfl rfl (by decide +kernel) ⟨Nat.le_of_ble_eq_true rfl, Nat.le_of_ble_eq_true rfl⟩) (gP_S hG hS (fun q _ h => hF9 q h) rfl) rfl rfl hl.1 rfl (lv_room (Nat.le_of_ble_eq_true rfl)) dX1_scale_74 ⟨by first | decide | omega | (show _ ≤ (8 : Nat); omega), by first | decide | omega | (show _ ≤ (90 : Nat); omega)⟩) hP hD hS hA [] [0] rfl rfl (by decide) (by decide) (fun u9 ra9 H locs hq hX hz hk hP hD hS => ?_)
        obtain ⟨ra_2, rfl⟩ : ∃ z, z = ra9 := ⟨_, rfl⟩
        have hP : va_P (dC, dI) vwCl [((xa 7), .inl (dA 4, 8, .inr (.inr (.inr (.inr (fun k => some (rm k))))))), (ra_2, .inr (17, []))] H := hP
        have hD : va_D A [((xa 7), .inl (dA 4, 8, .inr (.inr (.inr (.inr (fun k => some (rm k))))))), (ra_2, .inr (17, []))] := hD
        refine vx_athrow hx hb dX1_scale_77 ?_
        obtain ⟨ce, h1, h2, h3⟩ := va_thr hK hP (ci := 17) (q0 := 1) rfl rfl
        subst hQe
        exact vx_outP hown hlocks (by rw [hxt]; exact (List.forall_mem_cons.mpr ⟨Or.inl (by decide), (fun _ h => nomatch h)⟩)) h1 h2 h3 (fun t10 e10 _ => ⟨(), trivial, (⟨Or.inr (Or.inr (⟨rfl, scl_3 h7jt h7ja hx9 hy9 hpU⟩)), by rw [e10]; exact hP.sub (ws' := [((xa 7), .inl (dA 4, 8, .inr (.inr (.inr (.inr (fun k => some (rm k)))))))]) [0] rfl⟩ : (_ ∧ _)), hS.F e10⟩) hS.2.2 (by first | decide | omega) (by first | decide | omega)
      obtain ⟨ra_3, rfl⟩ : ∃ z, z = ra9 := ⟨_, rfl⟩
      obtain ⟨mr_3, M_3⟩ := u9
      have e_3 := hq
      have sm_3 : MSm M_3 := scaS_sm (sm_of hy9 (by decide) (by decide)) (nz_of hy9) (sR ja (by omega)) e_3
      clear hq
      have hP : va_P (dC, dI) vwCl [((xa 7), .inl (dA 4, 8, .inr (.inr (.inr (.inr (fun k => some (rm k))))))), (ra_3, .inr (0, [.ref mr_3, .long (M_3 0)])), (mr_3, .inl (dA 1, 32, .inr (.inl (fun j => M_3 (j + 1)))))] H := hP
      have hD : va_D A [((xa 7), .inl (dA 4, 8, .inr (.inr (.inr (.inr (fun k => some (rm k))))))), (ra_3, .inr (0, [.ref mr_3, .long (M_3 0)])), (mr_3, .inl (dA 1, 32, .inr (.inl (fun j => M_3 (j + 1)))))] := hD
      have hF9 := va_free (wc := [((xa 7), .inl (dA 4, 8, .inr (.inr (.inr (.inr (fun k => some (rm k)))))))]) hD hS (fun q h => hA q h) [0] rfl
      refine c_i (wr := [(ra_3, .inr (0, [.ref mr_3, .long (M_3 0)])), (mr_3, .inl (dA 1, 32, .inr (.inl (fun j => M_3 (j + 1)))))]) (va_runV (As := [.int (nI jt), .ref ra_3]) (rest := []) ⟨hx, hb, hml, hown, hts⟩ (x1_store Z (va_A [((xa 7), .inl (dA 4, 8, .inr (.inr (.inr (.inr (fun k => some (rm k)))))))] H.size) H.size (fun q h => Or.inr h) Y xa tl ec ep ga (fun k => some (rm k)) jt ra_3 mr_3 M_3 (by omega)) (cwV 2 hts (lw_V q731 q733 qs6 q96 q734) rfl rfl rfl (by decide +kernel) ⟨Nat.le_of_ble_eq_true rfl, Nat.le_of_ble_eq_true rfl⟩) (gP_V (va_recv hK (hR0.up hS) (ci := 3) (q0 := 0) rfl rfl) hG hS (fun q _ h => hF9 q h) ⟨rfl, (hP.sub (ws' := [((xa 7), .inl (dA 4, 8, .inr (.inr (.inr (.inr (fun k => some (rm k)))))))]) [0] rfl), (hD.sub (ws' := [((xa 7), .inl (dA 4, 8, .inr (.inr (.inr (.inr (fun k => some (rm k)))))))]) [0] (by decide) rfl).self, (hR0.to hS (fun q _ h => hF9 q h)), (RO.beside (wr := [(ra_3, .inr (0, [.ref mr_3, .long (M_3 0)])), (mr_3, .inl (dA 1, 32, .inr (.inl (fun j => M_3 (j + 1)))))]) hP hD [0] [1, 2] rfl rfl (by decide))⟩) rfl rfl hl.1 rfl (lv_room (Nat.le_of_ble_eq_true rfl)) dX1_scale_68 ⟨by first | decide | omega | (show _ ≤ (8 : Nat); omega), by first | decide | omega | (show _ ≤ (90 : Nat); omega)⟩) hP hD hS hA [0] [1, 2] rfl rfl (by decide) (by decide) (fun r9 u9 H locs hq hX hz hk hP hD hS => ?_)
      obtain ⟨r_4, rfl⟩ : ∃ z, z = r9 := ⟨_, rfl⟩
      subst hq
      have hP : va_P (dC, dI) vwCl [(ra_3, .inr (0, [.ref mr_3, .long (M_3 0)])), (mr_3, .inl (dA 1, 32, .inr (.inl (fun j => M_3 (j + 1))))), ((xa 7), .inl (dA 4, 8, .inr (.inr (.inr (.inr (va_up (fun k => some (rm k)) jt (some ra_3)))))))] H := hP
      have hD : va_D A [(ra_3, .inr (0, [.ref mr_3, .long (M_3 0)])), (mr_3, .inl (dA 1, 32, .inr (.inl (fun j => M_3 (j + 1))))), ((xa 7), .inl (dA 4, 8, .inr (.inr (.inr (.inr (va_up (fun k => some (rm k)) jt (some ra_3)))))))] := hD
      have e8 : rg (nI jt) = jt := rg_n (by omega)
      subst hQe
      refine vx_ret ?_
      refine W.widen (k := 8) (n := 90) (by first | decide | omega) (by first | decide | omega) ?_
      exact W.iret (v := nI (trmS M_3)) hx hb hr (fun tz ht hW => ⟨⟨_, (ra_3, mr_3, M_3), rfl, ⟨scl_ok h7jt h7ja hx9 hy9 e_3, rfl⟩, B1_at ht (by rw [e8]; exact hP.sub [2] rfl) (by rw [e8]; exact hD.sub [2] (by decide) rfl) (⟨hP.sub [0, 1] rfl, Or.inl ⟨fresh_of hD hAf 2 0 rfl rfl (by decide), fresh_of hD hAf 2 1 rfl rfl (by decide)⟩⟩)⟩, hS.F ht⟩) hS.2.2 dX1_scale_71
