theorem S2.s1 {D dS : va_G} {dA : Nat → ClassId} {σ : Nat → Nat} {s0 : State} (Y2 : S2 D dS dA σ s0) : vk_R "BladeAlgebra" 456 " - " (σ 65) s0 ∧ STR D dS dA (σ 65) (σ 66) 3 (fun j => nI ([32, 45, 32].getD j 0)) s0 := Y2.2.2.2.2.2.2.2.1
theorem S2.s2 {D dS : va_G} {dA : Nat → ClassId} {σ : Nat → Nat} {s0 : State} (Y2 : S2 D dS dA σ s0) : vk_R "BladeAlgebra" 458 " + " (σ 67) s0 ∧ STR D dS dA (σ 67) (σ 68) 3 (fun j => nI ([32, 43, 32].getD j 0)) s0 := Y2.2.2.2.2.2.2.2.2.1
theorem S2.s3 {D dS : va_G} {dA : Nat → ClassId} {σ : Nat → Nat} {s0 : State} (Y2 : S2 D dS dA σ s0) : vk_R "BladeAlgebra$Reader" 48 "er+-*/^.~!()" (σ 69) s0 ∧ STR D dS dA (σ 69) (σ 70) 12 (fun j => nI ([101, 114, 43, 45, 42, 47, 94, 46, 126, 33, 40, 41].getD j 0)) s0 := Y2.2.2.2.2.2.2.2.2.2
theorem b_nI : ∀ c, c < 128 → nI c = sb_b c := by decide +kernel
theorem getD_lt {l : List Nat} (h : ∀ x ∈ l, x < 128) (j : Nat) : l.getD j 0 < 128 := by
  rcases Nat.lt_or_ge j l.length with c | c
  · exact h _ (ca_m c)
  · rw [List.getD_eq_getElem?_getD, List.getElem?_eq_none c]; decide
theorem str_O {l : List Nat} (h : ∀ x ∈ l, x < 128) : OutH l (fun j => nI (l.getD j 0)) := fun j _ => b_nI _ (getD_lt h j)
theorem str_fit {l : List Nat} (h : ∀ x ∈ l, x < 128) : sb_Fit (fun j => nI (l.getD j 0)) := fun j => by
  show fits .byte (.int (nI (l.getD j 0))) = true
  rw [b_nI _ (getD_lt h j)]
  exact sb_fitB _
theorem wrK_sk {M : MV} {i : Nat} : ∀ d, (∀ b, i ≤ b → b < i + d → M (b + 1) = 0) → wrK M (i + d) = wrK M i
  | 0, _ => rfl
  | d + 1, h => by
    show (if M (i + d + 1) = 0 then wrK M (i + d) else _) = _
    rw [if_pos (h (i + d) (by omega) (by omega))]
    exact wrK_sk d (fun b h1 h2 => h b h1 (by omega))
theorem wrK_nx2 {M : MV} {i : Nat} (hi : i ≤ 32) : wrK M (nxF M i) = wrK M i := by
  obtain ⟨h1, h2⟩ := nx_le (M := M) hi
  have := wrK_sk (M := M) (i := i) (nxF M i - i) (fun b a c => nx_z b a (by omega))
  rw [show i + (nxF M i - i) = nxF M i by omega] at this
  exact this
theorem wrK_nx {M : MV} (h : 0 ≤ 32) : wrK M (nxF M 0) = [] := wrK_nx2 h
theorem wrK_s {M : MV} {k : Nat} (h : ¬ M (k + 1) = 0) : wrK M (k + 1) = wrP (decide (M (k + 1) < 0)) (wrK M k) ++ wrT M k := if_neg h
theorem wrP_1 {b : Bool} {L : List Nat} (h : 0 < L.length) : wrP b L = L ++ ([32] ++ [if b then 45 else 43] ++ [32]) := by
  unfold wrP
  rw [if_pos h]
  simp only [List.append_assoc]
theorem wrP_2 {L : List Nat} (h : ¬ 0 < L.length) : wrP true L = L ++ [45] := by unfold wrP; rw [if_neg h]; rfl
theorem wrP_3 {L : List Nat} (h : ¬ 0 < L.length) : wrP false L = L := by unfold wrP; rw [if_neg h]; rfl
theorem wr_ok {M : MV} (sM : MSm M) {k : Nat} (hk : k < 32) : absL (M (k + 1) / gcdL (M (k + 1)) (M 0)) = lN (topN M k) ∧ M 0 / gcdL (M (k + 1)) (M 0) = lN (botN M k) ∧ topN M k ≤ 100000000 ∧ botN M k ≤ 100000000 ∧ M (k + 1) / gcdL (M (k + 1)) (M 0) ≠ Int64.minValue ∧ (wrQ (topN M k) (botN M k) k).length ≤ 26 ∧ decide (M (k + 1) / gcdL (M (k + 1)) (M 0) < 0) = decide (M (k + 1) < 0) := by
  have h1 := sM.1
  have h0 : 0 < aN (M 0) := by unfold aN; omega
  have hg : 0 < Nat.gcd (aN (M 0)) (aN (M (k + 1))) := Nat.gcd_pos_of_pos_left _ h0
  have hb0 := aN8 sM.u
  have hg2 : Nat.gcd (aN (M 0)) (aN (M (k + 1))) < 2 ^ 63 := by
    have := Nat.le_of_dvd h0 (Nat.gcd_dvd_left (aN (M 0)) (aN (M (k + 1))))
    omega
  have hd : Nat.gcd (aN (M 0)) (aN (M (k + 1))) ∣ aN (M (k + 1)) := Nat.gcd_dvd_right _ _
  have e : gcdL (M (k + 1)) (M 0) = lN (Nat.gcd (aN (M 0)) (aN (M (k + 1)))) := gcdL_comm _ _
  rw [e]
  refine ⟨div_aN (sM.c hk) hg hg2, div_lN sM.u (by omega) hg hg2, Nat.le_trans (Nat.div_le_self _ _) (aN8 (sM.c hk)), Nat.le_trans (Nat.div_le_self _ _) hb0, ne_min_of (div_small (sM.c hk) (by decide) hg hg2) (by decide), wrT_len sM hk, ?_⟩
  generalize Nat.gcd (aN (M 0)) (aN (M (k + 1))) = g at hg hg2 hd
  have h3 : (M (k + 1) / lN g).toInt = (M (k + 1)).toInt.tdiv g := by
    rw [Int64.toInt_div_of_ne_left _ _ (ne_min_of (sM.c hk) (by decide)), pk_lT hg2]
  apply Bool.eq_iff_iff.mpr
  rw [decide_eq_true_iff, decide_eq_true_iff, Int64.lt_iff_toInt_lt, Int64.lt_iff_toInt_lt, Int64.toInt_zero, h3]
  have hdv : (g : Int) ∣ (M (k + 1)).toInt := by
    have := Int.natCast_dvd_natCast.mpr hd
    exact Int.dvd_natAbs.mp this
  obtain ⟨c, hc⟩ := hdv
  rw [hc, Int.mul_tdiv_cancel_left _ (by omega)]
  constructor
  · intro h
    exact Int.mul_neg_of_pos_of_neg (by omega) h
  · intro h
    apply Int.not_le.mp
    intro z
    have := Int.mul_nonneg (show (0 : Int) ≤ g by omega) z
    omega
set_option maxHeartbeats 4000000 in
theorem x1_write {l : Launch} {dC : Nat → ClassId} {dI : Nat → Nat → Nat} {dA : Nat → ClassId} {s0 : State} {b0 : Addr} (Z : Z0 l dC dI dA s0 b0) (A : Nat → Prop) (sz : Nat) (hA : ∀ q : Nat, sz ≤ q → A q) {σ : Nat → Nat} {dS : va_G} (Y : SS (dC, dI) dA σ s0) (Y2 : S2 (dC, dI) dS dA σ s0) (xa : Nat → Nat) (tl : Nat) (ec ep : Int32) (ga : Nat) (rm rr : Nat → Nat) (Ms : Nat → MV) (bv bm n : Nat) (ml : Int32) (f : Nat → Int32) (a : Int32) (sR : ∀ k, k < 8 → MSm (Ms k)) (hf : sb_Fit f) (h2 : n ≤ bm) (h3 : bm ≤ 4000) (h5 : 16 ≤ bm) : vx_Met l yX1_write (ws_ yX1_write cX1_write 4 (some .int)) ({ frames := 9, cells := 2000, slots := 4400, locals := 540 } : Room) (gP [.ref (xa 0), .int a] s0 A (fun H => H.size = sz ∧ va_P (dC, dI) vwCl [((xa 6), .inr (15, [.ref bv, .int (nI 0), .int ml, .int (nI n)])), (bv, .inl (dA 2, bm, .inl f))] H ∧ va_D A [((xa 6), .inr (15, [.ref bv, .int (nI 0), .int ml, .int (nI n)])), (bv, .inl (dA 2, bm, .inl f))] ∧ RO A (dC, dI) [((xa 0), .inr (3, xFs xa tl ec ep)), ((xa 3), .inr (4, [.ref ga, .ref (xa 7)]))] H ∧ RO A (dC, dI) [((xa 7), .inl (dA 4, 8, .inr (.inr (.inr (.inr (fun k => some (rm k)))))))] H ∧ RG A (dC, dI) dA rm rr Ms H)) (va_Qi (S := Nat × Int32 × (Nat → Int32)) (fun r9 u => rgB a = true ∧ r9 = nI (wrA (Ms (rg a))).length ∧ OutH (wrA (Ms (rg a))) u.2.2 ∧ sb_Fit u.2.2) (B1 (dC, dI) A (fun u => [((xa 6), .inr (15, [.ref u.1, .int (nI 0), .int u.2.1, .int (nI ((wrA (Ms (rg a))).length))])), (u.1, .inl (dA 2, (cpN bm (wrA (Ms (rg a))).length), .inl u.2.2))]) (fun _ _ => True)) A) (vx_X (S := Unit) (fun _ => True) (fun _ E _ t9 => ((E = "java/lang/IndexOutOfBoundsException" ∧ rgB a = false)) ∧ va_P (dC, dI) vwCl [((xa 6), .inr (15, [.ref bv, .int (nI 0), .int ml, .int (nI n)])), (bv, .inl (dA 2, bm, .inl f))] t9.heap) A) 2000 4400 A := by
  refine vx_ofW (cc := cX1_write) (maxL := 4) (ret := (some .int)) (by decide) rfl ?_
  intro p e s m args below meth c s₁ B hml hnoH hv
  obtain ⟨hav, hG, hsz, hP, hD, hR0, hR1, hRG⟩ := hv
  have hx := B.exec
  have hb := B.bytes
  have hr := B.returns
  have hts := atoms_spec (ws := (ws_ yX1_write cX1_write 4 (some .int))) B.pre
  have hts : ∀ w ∈ lw_all, w.before _ s = true := fun w h => hts w (List.mem_cons_of_mem _ h)
  have hown : s.vm.findClass RX1 = some m.cls := findClass_of_methodNamed B.named
  have hlocks := B.notSynchronized
  have hK := hG.K Z
  subst hsz
  have hS : va_S A s.heap s.heap [] := va_S.rf
  have hl := lv_entry ([.ref (xa 0), .int a]) (n := 4) (Nat.le_of_ble_eq_true rfl)
  rw [show entryFrame m args 4 = entryFrame m ([.ref (xa 0), .int a] : List Value).toArray 4 from by rw [hav], lg_entry_eq]
  generalize (lg_sl ([.ref (xa 0), .int a]) ++ List.replicate (4 - (lg_sl ([.ref (xa 0), .int a])).length) Slot.unset).toArray = ls at hl ⊢
  have hl : lv_has ls 4 [(0, .ref (xa 0)), (1, .int a)] := hl
  generalize hQe : vx_MQ below _ _ _ s _ _ _ = Q
  change W p l e ({ frames := 9, cells := 2000, slots := 4400, locals := 540 } : Room) s m args below meth c s.heap [] 0 0 Q (F0 m 0 ls [])
  refine lv_iconst (v := nI 1) hx hb dX1_write_0 (by decide) ?_
  refine a_newa (D := (dC, dI)) (atype := .int) (N' := 1) (a0 := (1, .inl (fun _ => 0))) hx hb (hts _ q230) rfl hK hP hD hS hA 0 rfl (fun _ => ra_int) (fun _ => rfl) (by decide) (by decide) (by decide) (by first | decide | omega) (by first | decide | omega) dX1_write_1 (fun na_1 H locs hP hD hS => ?_)
  have hP : va_P (dC, dI) vwCl [((xa 6), .inr (15, [.ref bv, .int (nI 0), .int ml, .int (nI n)])), (bv, .inl (dA 2, bm, .inl f)), (na_1, .inl (dA 0, 1, .inl (fun _ => 0)))] H := hP
  have hD : va_D A [((xa 6), .inr (15, [.ref bv, .int (nI 0), .int ml, .int (nI n)])), (bv, .inl (dA 2, bm, .inl f)), (na_1, .inl (dA 0, 1, .inl (fun _ => 0)))] := hD
  refine lv_dup hx hb dX1_write_3 rfl ?_
  refine lv_iconst (v := nI 0) hx hb dX1_write_4 (by decide) ?_
  refine lv_iload_n hx hb dX1_write_5 rfl (lv_at hl 1 rfl) ?_
  refine a_iast hx hb hK hP hD hS 2 0 rfl rfl (by omega) (by omega) dX1_write_6 (fun H locs hP hD hS => ?_)
  have hP : va_P (dC, dI) vwCl [((xa 6), .inr (15, [.ref bv, .int (nI 0), .int ml, .int (nI n)])), (bv, .inl (dA 2, bm, .inl f)), (na_1, .inl (dA 0, 1, .inl (upd (fun _ => 0) 0 a)))] H := hP
  have hD : va_D A [((xa 6), .inr (15, [.ref bv, .int (nI 0), .int ml, .int (nI n)])), (bv, .inl (dA 2, bm, .inl f)), (na_1, .inl (dA 0, 1, .inl (upd (fun _ => 0) 0 a)))] := hD
  have hF9 := va_free (wc := []) hD hS (fun q h => hA q h) [] rfl
  refine x_v (wc := []) (wr := [((xa 6), .inr (15, [.ref bv, .int (nI 0), .int ml, .int (nI n)])), (bv, .inl (dA 2, bm, .inl f)), (na_1, .inl (dA 0, 1, .inl (upd (fun _ => 0) 0 a)))]) (vx_runS (As := [.ref na_1]) (rest := []) ⟨hx, hb, hml, hown, hts⟩ (x1_registers Z (va_A [] H.size) H.size (fun q h => Or.inr h) Y na_1 1 (upd (fun _ => 0) 0 a) (by decide)) (va_cwS 1 hts (lw_S q469 q470 q96 q471) rfl rfl rfl (by decide +kernel) ⟨Nat.le_of_ble_eq_true rfl, Nat.le_of_ble_eq_true rfl⟩) (gP_S hG hS (fun q _ h => hF9 q h) ⟨rfl, (RO.beside (wr := [(na_1, .inl (dA 0, 1, .inl (upd (fun _ => 0) 0 a)))]) hP hD [] [2] rfl rfl (by decide))⟩) rfl rfl hl.1 rfl (lv_room (Nat.le_of_ble_eq_true rfl)) dX1_write_7 ⟨by first | decide | omega | (show _ ≤ (2000 : Nat); omega), by first | decide | omega | (show _ ≤ (4400 : Nat); omega)⟩) hP hD hS hA [] [0, 1, 2] rfl rfl (by decide) (by decide) (fun E ce q9 u9 t9 H locs ht9 hp9 hb9 hz hP hS h1 h2 h3 => ?_) (fun u9 H locs hq hX hz hk hP hD hS => ?_)
  · have hD := hD.sub (ws' := [((xa 6), .inr (15, [.ref bv, .int (nI 0), .int ml, .int (nI n)])), (bv, .inl (dA 2, bm, .inl f)), (na_1, .inl (dA 0, 1, .inl (upd (fun _ => 0) 0 a)))]) [0, 1, 2] (by decide) rfl
    have hP : va_P (dC, dI) vwCl [((xa 6), .inr (15, [.ref bv, .int (nI 0), .int ml, .int (nI n)])), (bv, .inl (dA 2, bm, .inl f)), (na_1, .inl (dA 0, 1, .inl (upd (fun _ => 0) 0 a)))] H := hP
    have hD : va_D A [((xa 6), .inr (15, [.ref bv, .int (nI 0), .int ml, .int (nI n)])), (bv, .inl (dA 2, bm, .inl f)), (na_1, .inl (dA 0, 1, .inl (upd (fun _ => 0) 0 a)))] := hD
    subst hb9
    subst hQe
    exact vx_out (fun x h => (hnoH x h).elim) hlocks h1 h2 h3 (fun t10 e10 _ => ⟨(), trivial, (⟨⟨rfl, rgs1.symm.trans hp9⟩, by rw [e10]; exact hP.sub (ws' := [((xa 6), .inr (15, [.ref bv, .int (nI 0), .int ml, .int (nI n)])), (bv, .inl (dA 2, bm, .inl f))]) [0, 1] rfl⟩ : (_ ∧ _)), hS.F e10⟩) hS.2.2 (by first | decide | omega) (by first | decide | omega)
  have hrg : (rgB a) = true := rgs1.symm.trans hq
  clear hq
  have hP : va_P (dC, dI) vwCl [((xa 6), .inr (15, [.ref bv, .int (nI 0), .int ml, .int (nI n)])), (bv, .inl (dA 2, bm, .inl f)), (na_1, .inl (dA 0, 1, .inl (upd (fun _ => 0) 0 a)))] H := hP
  have hD : va_D A [((xa 6), .inr (15, [.ref bv, .int (nI 0), .int ml, .int (nI n)])), (bv, .inl (dA 2, bm, .inl f)), (na_1, .inl (dA 0, 1, .inl (upd (fun _ => 0) 0 a)))] := hD
  have hP0 := hP.sub (ws' := [((xa 6), .inr (15, [.ref bv, .int (nI 0), .int ml, .int (nI n)])), (bv, .inl (dA 2, bm, .inl f))]) [0, 1] rfl
  have hD0 := hD.sub (ws' := [((xa 6), .inr (15, [.ref bv, .int (nI 0), .int ml, .int (nI n)])), (bv, .inl (dA 2, bm, .inl f))]) [0, 1] (by decide) rfl
  have h8ja := inB_nat (by decide) (show inB a (nI 0) (nI 7) = true from hrg)
  obtain ⟨ja, h9ja, e8ja⟩ := h8ja
  have h7ja : ja < 8 := by omega
  subst e8ja
  have hP := hP0
  have hD := hD0
  refine lv_aload_n hx hb dX1_write_10 rfl (lv_at hl 0 rfl) ?_
  refine va_get (D := (dC, dI)) (ci := 3) (v := .ref (xa 6)) (C := RX1) (T := TX1) (N := 9) hx hb hts in_X1 hown hK (hR0.up hS) 0 rfl rfl 8 (by decide) (hts _ q295) (fun _ h9 => h9) rfl dX1_write_11 ?_
  refine lv_iconst (v := nI 0) hx hb dX1_write_14 (by decide) ?_
  have hF9 := va_free (wc := [((xa 6), .inr (15, [.ref bv, .int (nI 0), .int ml, .int (nI n)])), (bv, .inl (dA 2, bm, .inl f))]) hD hS (fun q h => hA q h) [0, 1] rfl
  refine c_v (wr := []) (va_runV (As := [.int (nI 0)]) (rest := []) ⟨hx, hb, hml, hown, hts⟩ (j1_setLength Z (va_A [((xa 6), .inr (15, [.ref bv, .int (nI 0), .int ml, .int (nI n)])), (bv, .inl (dA 2, bm, .inl f))] H.size) H.size (fun q h => Or.inr h) Y2 (xa 6) bv bm n ml f hf (by omega) (by omega)) (cwV 1 hts (lw_V q1847 q1848 q1849 q104 q1850) rfl rfl rfl (by decide +kernel) ⟨Nat.le_of_ble_eq_true rfl, Nat.le_of_ble_eq_true rfl⟩) (gP_V (va_recv hK hP (ci := 15) (q0 := 0) rfl rfl) hG hS (fun q _ h => hF9 q h) ⟨rfl, (hP.sub (ws' := [((xa 6), .inr (15, [.ref bv, .int (nI 0), .int ml, .int (nI n)])), (bv, .inl (dA 2, bm, .inl f))]) [0, 1] rfl), (hD.sub (ws' := [((xa 6), .inr (15, [.ref bv, .int (nI 0), .int ml, .int (nI n)])), (bv, .inl (dA 2, bm, .inl f))]) [0, 1] (by decide) rfl).self⟩) rfl rfl hl.1 rfl (lv_room (Nat.le_of_ble_eq_true rfl)) dX1_write_15 ⟨by first | decide | omega | (show _ ≤ (2000 : Nat); omega), by first | decide | omega | (show _ ≤ (4400 : Nat); omega)⟩) hP hD hS hA [0, 1] [] rfl rfl (by decide) (by decide) (fun u9 H locs hq hX hz hk hP hD hS => ?_)
  obtain ⟨bv_1, ml_1, f_1⟩ := u9
  have hf_1 := hq
  clear hq
  have hP : va_P (dC, dI) vwCl [((xa 6), .inr (15, [.ref bv_1, .int (nI 0), .int ml_1, .int (nI 0)])), (bv_1, .inl (dA 2, bm, .inl f_1))] H := hP
  have hD : va_D A [((xa 6), .inr (15, [.ref bv_1, .int (nI 0), .int ml_1, .int (nI 0)])), (bv_1, .inl (dA 2, bm, .inl f_1))] := hD
  refine lv_aload_n hx hb dX1_write_18 rfl (lv_at hl 0 rfl) ?_
  refine va_get (D := (dC, dI)) (ci := 3) (v := .ref (xa 3)) (C := RX1) (T := TX1) (N := 9) hx hb hts in_X1 hown hK (hR0.up hS) 0 rfl rfl 2 (by decide) (hts _ q286) (fun _ h9 => h9) rfl dX1_write_19 ?_
  refine va_getN (D := (dC, dI)) (ci := 4) (v := .ref (xa 7)) (C := RX4) (T := TX4) (N := 2) hx hb hts in_X4 hown hK (hR0.up hS) 1 rfl rfl 1 (by decide) (((va_Nw.warmF hG.1 (va_Nw.of rfl (Z.2.1 _ q243)))).use rfl) (fun _ h9 => h9) rfl dX1_write_22 ?_
  refine lv_iload_n hx hb dX1_write_25 rfl (lv_at hl 1 rfl) ?_
  refine a_aldq hx hb hK (hR1.up hS) 0 4 rfl rfl (by omega) (by decide) dX1_write_26 ?_
  refine e_v (y := .ref (rm ja)) (rfl) ?_
  have hR2 := hRG ja (by omega)
  have hF9 := va_free (wc := []) hD hS (fun q h => hA q h) [] rfl
  refine c_r (wr := [((xa 6), .inr (15, [.ref bv_1, .int (nI 0), .int ml_1, .int (nI 0)])), (bv_1, .inl (dA 2, bm, .inl f_1))]) (va_runV (As := []) (rest := []) ⟨hx, hb, hml, hown, hts⟩ (x6_iterator Z (va_A [] H.size) H.size (fun q h => Or.inr h) (rm ja) (rr ja) (Ms ja)) (cwV 0 hts (lw_V q924 q925 q926 q102 q927) rfl rfl rfl (by decide +kernel) ⟨Nat.le_of_ble_eq_true rfl, Nat.le_of_ble_eq_true rfl⟩) (gP_V (va_recv hK (hR2.up hS) (ci := 0) (q0 := 0) rfl rfl) hG hS (fun q _ h => hF9 q h) ⟨rfl, (hR2.to hS (fun q _ h => hF9 q h))⟩) rfl rfl hl.1 rfl (lv_room (Nat.le_of_ble_eq_true rfl)) dX1_write_27 ⟨by first | decide | omega | (show _ ≤ (2000 : Nat); omega), by first | decide | omega | (show _ ≤ (4400 : Nat); omega)⟩) hP hD hS hA [] [0, 1] rfl rfl (by decide) (by decide) (fun u9 ra9 H locs hq hX hz hk hP hD hS => ?_)
  obtain ⟨ra_2, rfl⟩ : ∃ z, z = ra9 := ⟨_, rfl⟩
  have hP : va_P (dC, dI) vwCl [((xa 6), .inr (15, [.ref bv_1, .int (nI 0), .int ml_1, .int (nI 0)])), (bv_1, .inl (dA 2, bm, .inl f_1)), (ra_2, .inr (6, [.int (nI (nxF (Ms ja) 0)), .ref (rm ja)]))] H := hP
  have hD : va_D A [((xa 6), .inr (15, [.ref bv_1, .int (nI 0), .int ml_1, .int (nI 0)])), (bv_1, .inl (dA 2, bm, .inl f_1)), (ra_2, .inr (6, [.int (nI (nxF (Ms ja) 0)), .ref (rm ja)]))] := hD
  refine lv_astore_n (lv' := [(2, .ref ra_2), (0, .ref (xa 0)), (1, .int (nI ja))]) hx hb dX1_write_30 rfl hl (by decide) rfl (fun ls hl => ?_)
  have sMj := sR ja (by omega)
  have hk0 := nx_le (M := Ms ja) (i := 0) (by decide)
  have hw0 : wrK (Ms ja) (nxF (Ms ja) 0) = [] := wrK_nx (by decide)
  have hcl : cpN bm (wrK (Ms ja) (nxF (Ms ja) 0)).length = bm := by rw [hw0]; exact cp_le (Nat.zero_le _)
  have hP : va_P (dC, dI) vwCl [((xa 6), .inr (15, [.ref bv_1, .int (nI 0), .int ml_1, .int (nI ((wrK (Ms ja) (nxF (Ms ja) 0)).length))])), (bv_1, .inl (dA 2, (cpN bm (wrK (Ms ja) (nxF (Ms ja) 0)).length), .inl f_1)), (ra_2, .inr (6, [.int (nI (nxF (Ms ja) 0)), .ref (rm ja)]))] H := by rw [hcl, hw0]; exact hP
  have hD : va_D A [((xa 6), .inr (15, [.ref bv_1, .int (nI 0), .int ml_1, .int (nI ((wrK (Ms ja) (nxF (Ms ja) 0)).length))])), (bv_1, .inl (dA 2, (cpN bm (wrK (Ms ja) (nxF (Ms ja) 0)).length), .inl f_1)), (ra_2, .inr (6, [.int (nI (nxF (Ms ja) 0)), .ref (rm ja)]))] := by rw [hcl, hw0]; exact hD
  refine W.widen (k := 20 + nxF (Ms ja) 0 + (cpN bm (wrK (Ms ja) (nxF (Ms ja) 0)).length - bm)) (n := 60 + 3 * nxF (Ms ja) 0 + 2 * (cpN bm (wrK (Ms ja) (nxF (Ms ja) 0)).length - bm)) (by omega) (by omega) ?_
  have loop_3 : ∀ (n9_3 : Nat) (kk : Nat) (bv2 : Nat) (f2 : Nat → Int32) (H : Heap) (locs : List Loc) (ls : Array Slot), 33 - kk < n9_3 → (kk ≤ 32) → (kk < 32 → ¬ Ms ja (kk + 1) = 0) → (OutH (wrK (Ms ja) kk) f2) → (sb_Fit f2) → va_P (dC, dI) vwCl [(ra_2, .inr (6, [.int (nI kk), .ref (rm ja)])), ((xa 6), .inr (15, [.ref bv2, .int (nI 0), .int ml_1, .int (nI ((wrK (Ms ja) kk).length))])), (bv2, .inl (dA 2, (cpN bm (wrK (Ms ja) kk).length), .inl f2))] H → va_D A [(ra_2, .inr (6, [.int (nI kk), .ref (rm ja)])), ((xa 6), .inr (15, [.ref bv2, .int (nI 0), .int ml_1, .int (nI ((wrK (Ms ja) kk).length))])), (bv2, .inl (dA 2, (cpN bm (wrK (Ms ja) kk).length), .inl f2))] → va_S A s.heap H locs → lv_has ls 4 [(0, .ref (xa 0)), (1, .int (nI ja)), (2, .ref ra_2)] → W p l e ({ frames := 9, cells := 2000, slots := 4400, locals := 540 } : Room) s m args below meth c H locs (20 + kk + (cpN bm (wrK (Ms ja) kk).length - bm)) (60 + 3 * kk + 2 * (cpN bm (wrK (Ms ja) kk).length - bm)) Q (F0 m 31 ls []) := by
    intro n9_3
    induction n9_3 with
    | zero => intro kk bv2 f2 H locs ls hm_3; exact absurd hm_3 (Nat.not_lt_zero _)
    | succ n9_3 ih_3 =>
      intro kk bv2 f2 H locs ls hm_3 hkk hkz hO2 hf2 hP hD hS hl
      have hlk := wrK_len sMj kk hkk
      have hg1 : bm ≤ cpN bm (wrK (Ms ja) kk).length := cp_gem
      have hg2 : (wrK (Ms ja) kk).length ≤ cpN bm (wrK (Ms ja) kk).length := cp_ge
      have hg3 := cp_bd (m := bm) (N := (wrK (Ms ja) kk).length)
      refine lv_aload_n hx hb dX1_write_31 rfl (lv_at hl 2 rfl) ?_
      have hnK : (wrK (Ms ja) kk).length = (wrK (Ms ja) kk).length := rfl
      have hF9 := va_free (wc := [(ra_2, .inr (6, [.int (nI kk), .ref (rm ja)]))]) hD hS (fun q h => hA q h) [0] rfl
      refine c5_i (wr := [((xa 6), .inr (15, [.ref bv2, .int (nI 0), .int ml_1, .int (nI ((wrK (Ms ja) kk).length))])), (bv2, .inl (dA 2, (cpN bm (wrK (Ms ja) kk).length), .inl f2))]) (va_runF (As := []) (rest := []) (hK.1 6 _ rfl).2 ⟨hx, hb, hml, hown, hts⟩ (x10_hasNext Z (va_A [(ra_2, .inr (6, [.int (nI kk), .ref (rm ja)]))] H.size) H.size (fun q h => Or.inr h) ra_2 (rm ja) kk (by omega)) (va_cwF 0 hts (lw_F q946 q950 q952 q120 q954) rfl rfl rfl (fwZ Z hG (by decide +kernel) q948 q947 q953 q951 q949) (by decide +kernel) ⟨Nat.le_of_ble_eq_true rfl, Nat.le_of_ble_eq_true rfl⟩) (gP_V (va_recv hK hP (ci := 6) (q0 := 0) rfl rfl) hG hS (fun q _ h => hF9 q h) ⟨rfl, (hP.sub (ws' := [(ra_2, .inr (6, [.int (nI kk), .ref (rm ja)]))]) [0] rfl), (hD.sub (ws' := [(ra_2, .inr (6, [.int (nI kk), .ref (rm ja)]))]) [0] (by decide) rfl).self⟩) rfl rfl hl.1 rfl (lv_room (Nat.le_of_ble_eq_true rfl)) dX1_write_32 ⟨by first | decide | omega | (show _ ≤ (2000 : Nat); omega), by first | decide | omega | (show _ ≤ (4400 : Nat); omega)⟩) hP hD hS hA [0] [1, 2] rfl rfl (by decide) (by decide) (fun r9 u9 H locs hq hX hz hk hP hD hS => ?_)
      have hr9 := hq
      clear hq
      obtain ⟨r_4, rfl⟩ : ∃ z, z = r9 := ⟨_, rfl⟩
      subst hr9
      have hP : va_P (dC, dI) vwCl [((xa 6), .inr (15, [.ref bv2, .int (nI 0), .int ml_1, .int (nI ((wrK (Ms ja) kk).length))])), (bv2, .inl (dA 2, (cpN bm (wrK (Ms ja) kk).length), .inl f2)), (ra_2, .inr (6, [.int (nI kk), .ref (rm ja)]))] H := hP
      have hD : va_D A [((xa 6), .inr (15, [.ref bv2, .int (nI 0), .int ml_1, .int (nI ((wrK (Ms ja) kk).length))])), (bv2, .inl (dA 2, (cpN bm (wrK (Ms ja) kk).length), .inl f2)), (ra_2, .inr (6, [.int (nI kk), .ref (rm ja)]))] := hD
      refine lv_if_eq (tgt := 112) hx hb dX1_write_37 (by decide) (fun c_37 => ?_) (fun c_37 => ?_)
      · have hkx : ¬ kk < 32 := fun z => by have h9 := bI_0 c_37; rw [decide_eq_true z] at h9; cases h9
        obtain rfl : kk = 32 := by omega
        refine lv_aload_n hx hb dX1_write_112 rfl (lv_at hl 0 rfl) ?_
        refine va_get (D := (dC, dI)) (ci := 3) (v := .ref (xa 6)) (C := RX1) (T := TX1) (N := 9) hx hb hts in_X1 hown hK (hR0.up hS) 0 rfl rfl 8 (by decide) (hts _ q295) (fun _ h9 => h9) rfl dX1_write_113 ?_
        refine s_i (va_runV (As := []) (rest := []) ⟨hx, hb, hml, hown, hts⟩ (j1_length Z Y2 (xa 6) bv2 ((wrK (Ms ja) 32).length) ml_1) (cwV 0 hts (lw_V q1899 q1554 q2542 q104 q1555) rfl rfl rfl (by decide +kernel) ⟨Nat.le_of_ble_eq_true rfl, Nat.le_of_ble_eq_true rfl⟩) (gP_V (va_recv hK hP (ci := 15) (q0 := 0) rfl rfl) hG hS (fun q _ h => h.elim) (hP.sub (ws' := [((xa 6), .inr (15, [.ref bv2, .int (nI 0), .int ml_1, .int (nI ((wrK (Ms ja) 32).length))]))]) [0] rfl)) rfl rfl hl.1 rfl (lv_room (Nat.le_of_ble_eq_true rfl)) dX1_write_116 ⟨by first | decide | omega | (show _ ≤ (2000 : Nat); omega), by first | decide | omega | (show _ ≤ (4400 : Nat); omega)⟩) ?_
        refine lv_if_ne (tgt := 132) hx hb dX1_write_119 (by decide) (fun c_119 => ?_) (fun c_119 => ?_)
        · have c_119 : ¬ ((wrK (Ms ja) 32).length) = 0 := fun h => c_119 ((nI_eq (a := ((wrK (Ms ja) 32).length)) (b := 0) (by omega) (by omega)).mpr h)
          have hwA : wrA (Ms ja) = wrK (Ms ja) 32 := if_neg c_119
          refine lv_aload_n hx hb dX1_write_132 rfl (lv_at hl 0 rfl) ?_
          refine va_get (D := (dC, dI)) (ci := 3) (v := .ref (xa 6)) (C := RX1) (T := TX1) (N := 9) hx hb hts in_X1 hown hK (hR0.up hS) 0 rfl rfl 8 (by decide) (hts _ q295) (fun _ h9 => h9) rfl dX1_write_133 ?_
          refine s_i (va_runV (As := []) (rest := []) ⟨hx, hb, hml, hown, hts⟩ (j1_length Z Y2 (xa 6) bv2 ((wrK (Ms ja) 32).length) ml_1) (cwV 0 hts (lw_V q1899 q1554 q2542 q104 q1555) rfl rfl rfl (by decide +kernel) ⟨Nat.le_of_ble_eq_true rfl, Nat.le_of_ble_eq_true rfl⟩) (gP_V (va_recv hK hP (ci := 15) (q0 := 0) rfl rfl) hG hS (fun q _ h => h.elim) (hP.sub (ws' := [((xa 6), .inr (15, [.ref bv2, .int (nI 0), .int ml_1, .int (nI ((wrK (Ms ja) 32).length))]))]) [0] rfl)) rfl rfl hl.1 rfl (lv_room (Nat.le_of_ble_eq_true rfl)) dX1_write_136 ⟨by first | decide | omega | (show _ ≤ (2000 : Nat); omega), by first | decide | omega | (show _ ≤ (4400 : Nat); omega)⟩) ?_
          have hLn : wrK (Ms ja) 32 = wrA (Ms ja) := hwA.symm
          have hnn : (wrK (Ms ja) 32).length = (wrA (Ms ja)).length := congrArg List.length hLn
          rw [hnn] at hP hD
          rw [hnn]
          have hOn := hO2
          rw [hLn] at hOn
          have e8 : rg (nI ja) = ja := rg_n (by omega)
          have hgA1 : bm ≤ cpN bm (wrA (Ms ja)).length := cp_gem
          have hgA2 := cp_bd (m := bm) (N := (wrA (Ms ja)).length)
          have hP : va_P (dC, dI) vwCl [((xa 6), .inr (15, [.ref bv2, .int (nI 0), .int ml_1, .int (nI ((wrA (Ms ja)).length))])), (bv2, .inl (dA 2, (cpN bm (wrA (Ms ja)).length), .inl f2)), (ra_2, .inr (6, [.int (nI 32), .ref (rm ja)]))] H := hP
          have hD : va_D A [((xa 6), .inr (15, [.ref bv2, .int (nI 0), .int ml_1, .int (nI ((wrA (Ms ja)).length))])), (bv2, .inl (dA 2, (cpN bm (wrA (Ms ja)).length), .inl f2)), (ra_2, .inr (6, [.int (nI 32), .ref (rm ja)]))] := hD
          subst hQe
          refine vx_ret ?_
          refine W.widen (k := 2000) (n := 4400) (by first | decide | omega) (by first | decide | omega) ?_
          exact W.iret (v := nI ((wrA (Ms ja)).length)) hx hb hr (fun tz ht hW => ⟨⟨_, (bv2, ml_1, f2), rfl, (by rw [e8]; exact ⟨rg_t h7ja, rfl, hOn, hf2⟩), B1_at ht (by rw [e8]; exact hP.sub [0, 1] rfl) (by rw [e8]; exact hD.sub [0, 1] (by decide) rfl) trivial⟩, hS.F ht⟩) hS.2.2 dX1_write_139
        · have c_119 : ((wrK (Ms ja) 32).length) = 0 := (nI_eq (a := ((wrK (Ms ja) 32).length)) (b := 0) (by omega) (by omega)).mp c_119
          have hwA : wrA (Ms ja) = [48] := if_pos c_119
          refine lv_aload_n hx hb dX1_write_122 rfl (lv_at hl 0 rfl) ?_
          refine va_get (D := (dC, dI)) (ci := 3) (v := .ref (xa 6)) (C := RX1) (T := TX1) (N := 9) hx hb hts in_X1 hown hK (hR0.up hS) 0 rfl rfl 8 (by decide) (hts _ q295) (fun _ h9 => h9) rfl dX1_write_123 ?_
          refine lv_bipush (v := nI 48) hx hb dX1_write_126 (by decide) ?_
          have hg1_4 : bm ≤ cpN bm ((wrK (Ms ja) 32).length + 1) := cp_gem
          have hg2_4 : ((wrK (Ms ja) 32).length + 1) ≤ cpN bm ((wrK (Ms ja) 32).length + 1) := cp_ge
          have hg3_4 := cp_bd (m := bm) (N := ((wrK (Ms ja) 32).length + 1))
          have hg4_4 : cpN bm (wrK (Ms ja) 32).length ≤ cpN (cpN bm (wrK (Ms ja) 32).length) ((wrK (Ms ja) 32).length + 1) := cp_gem
          have hg5_4 : cpN (cpN bm (wrK (Ms ja) 32).length) ((wrK (Ms ja) 32).length + 1) = cpN bm ((wrK (Ms ja) 32).length + 1) := cp_two (by omega)
          have hg7_4 := cp_ge (m := bm) (N := (wrK (Ms ja) 32).length)
          have hF9 := va_free (wc := [((xa 6), .inr (15, [.ref bv2, .int (nI 0), .int ml_1, .int (nI ((wrK (Ms ja) 32).length))])), (bv2, .inl (dA 2, (cpN bm (wrK (Ms ja) 32).length), .inl f2))]) hD hS (fun q h => hA q h) [0, 1] rfl
          refine c_r (wr := [(ra_2, .inr (6, [.int (nI 32), .ref (rm ja)]))]) (va_runV (As := [.int (nI 48)]) (rest := []) ⟨hx, hb, hml, hown, hts⟩ (j1_appendC Z (va_A [((xa 6), .inr (15, [.ref bv2, .int (nI 0), .int ml_1, .int (nI ((wrK (Ms ja) 32).length))])), (bv2, .inl (dA 2, (cpN bm (wrK (Ms ja) 32).length), .inl f2))] H.size) H.size (fun q h => Or.inr h) Y2 (xa 6) bv2 (cpN bm (wrK (Ms ja) 32).length) ((wrK (Ms ja) 32).length) ml_1 f2 (wrK (Ms ja) 32) 48 hnK hO2 hf2  (by omega) (by omega) (by omega)) (cwV 1 hts (lw_V q1907 q1908 q1909 q104 q1910) rfl rfl rfl (by decide +kernel) ⟨Nat.le_of_ble_eq_true rfl, Nat.le_of_ble_eq_true rfl⟩) (gP_V (va_recv hK hP (ci := 15) (q0 := 0) rfl rfl) hG hS (fun q _ h => hF9 q h) ⟨rfl, (hP.sub (ws' := [((xa 6), .inr (15, [.ref bv2, .int (nI 0), .int ml_1, .int (nI ((wrK (Ms ja) 32).length))])), (bv2, .inl (dA 2, (cpN bm (wrK (Ms ja) 32).length), .inl f2))]) [0, 1] rfl), (hD.sub (ws' := [((xa 6), .inr (15, [.ref bv2, .int (nI 0), .int ml_1, .int (nI ((wrK (Ms ja) 32).length))])), (bv2, .inl (dA 2, (cpN bm (wrK (Ms ja) 32).length), .inl f2))]) [0, 1] (by decide) rfl).self⟩) rfl rfl hl.1 rfl (lv_room (Nat.le_of_ble_eq_true rfl)) dX1_write_128 ⟨by first | decide | omega | (show _ ≤ (2000 : Nat); omega), by first | decide | omega | (show _ ≤ (4400 : Nat); omega)⟩) hP hD hS hA [0, 1] [2] rfl rfl (by decide) (by decide) (fun u9 ra9 H locs hq hX hz hk hP hD hS => ?_)
          obtain ⟨ra_5, rfl⟩ : ∃ z, z = ra9 := ⟨_, rfl⟩
          obtain ⟨bv_5, f_5⟩ := u9
          obtain ⟨hO_5, hf_5⟩ := hq
          refine e_v (y := .ref (xa 6)) (congrArg Value.ref hX) ?_
          have hn_5 : (wrK (Ms ja) 32 ++ [48]).length = (wrK (Ms ja) 32).length + 1 := (by rw [List.length_append, hnK]; first | rfl | simp)
          have hP : va_P (dC, dI) vwCl [(ra_2, .inr (6, [.int (nI 32), .ref (rm ja)])), ((xa 6), .inr (15, [.ref bv_5, .int (nI 0), .int ml_1, .int (nI ((wrK (Ms ja) 32).length + 1))])), (bv_5, .inl (dA 2, (cpN (cpN bm (wrK (Ms ja) 32).length) ((wrK (Ms ja) 32).length + 1)), .inl f_5))] H := hP
          have hD : va_D A [(ra_2, .inr (6, [.int (nI 32), .ref (rm ja)])), ((xa 6), .inr (15, [.ref bv_5, .int (nI 0), .int ml_1, .int (nI ((wrK (Ms ja) 32).length + 1))])), (bv_5, .inl (dA 2, (cpN (cpN bm (wrK (Ms ja) 32).length) ((wrK (Ms ja) 32).length + 1)), .inl f_5))] := hD
          rw [hg5_4] at hP hD
          have hP : va_P (dC, dI) vwCl [(ra_2, .inr (6, [.int (nI 32), .ref (rm ja)])), ((xa 6), .inr (15, [.ref bv_5, .int (nI 0), .int ml_1, .int (nI ((wrK (Ms ja) 32).length + 1))])), (bv_5, .inl (dA 2, (cpN bm ((wrK (Ms ja) 32).length + 1)), .inl f_5))] H := hP
          have hD : va_D A [(ra_2, .inr (6, [.int (nI 32), .ref (rm ja)])), ((xa 6), .inr (15, [.ref bv_5, .int (nI 0), .int ml_1, .int (nI ((wrK (Ms ja) 32).length + 1))])), (bv_5, .inl (dA 2, (cpN bm ((wrK (Ms ja) 32).length + 1)), .inl f_5))] := hD
          refine e_w (20 + 32 + cpN bm ((wrK (Ms ja) 32).length + 1) - bm) (60 + 3 * 32 + 2 * (cpN bm ((wrK (Ms ja) 32).length + 1) - bm)) (by omega) (by omega) ?_
          refine lv_pop hx hb dX1_write_131 rfl ?_
          refine lv_aload_n hx hb dX1_write_132 rfl (lv_at hl 0 rfl) ?_
          refine va_get (D := (dC, dI)) (ci := 3) (v := .ref (xa 6)) (C := RX1) (T := TX1) (N := 9) hx hb hts in_X1 hown hK (hR0.up hS) 0 rfl rfl 8 (by decide) (hts _ q295) (fun _ h9 => h9) rfl dX1_write_133 ?_
          refine s_i (va_runV (As := []) (rest := []) ⟨hx, hb, hml, hown, hts⟩ (j1_length Z Y2 (xa 6) bv_5 ((wrK (Ms ja) 32).length + 1) ml_1) (cwV 0 hts (lw_V q1899 q1554 q2542 q104 q1555) rfl rfl rfl (by decide +kernel) ⟨Nat.le_of_ble_eq_true rfl, Nat.le_of_ble_eq_true rfl⟩) (gP_V (va_recv hK hP (ci := 15) (q0 := 1) rfl rfl) hG hS (fun q _ h => h.elim) (hP.sub (ws' := [((xa 6), .inr (15, [.ref bv_5, .int (nI 0), .int ml_1, .int (nI ((wrK (Ms ja) 32).length + 1))]))]) [1] rfl)) rfl rfl hl.1 rfl (lv_room (Nat.le_of_ble_eq_true rfl)) dX1_write_136 ⟨by first | decide | omega | (show _ ≤ (2000 : Nat); omega), by first | decide | omega | (show _ ≤ (4400 : Nat); omega)⟩) ?_
          have hLn : wrK (Ms ja) 32 ++ [48] = wrA (Ms ja) := by rw [hwA, List.length_eq_zero_iff.mp c_119]; rfl
          have hnn : (wrK (Ms ja) 32).length + 1 = (wrA (Ms ja)).length := hn_5.symm.trans (congrArg List.length hLn)
          rw [hnn] at hP hD
          rw [hnn]
          have hOn := hO_5
          rw [hLn] at hOn
          have e8 : rg (nI ja) = ja := rg_n (by omega)
          have hgA1 : bm ≤ cpN bm (wrA (Ms ja)).length := cp_gem
          have hgA2 := cp_bd (m := bm) (N := (wrA (Ms ja)).length)
          have hP : va_P (dC, dI) vwCl [(ra_2, .inr (6, [.int (nI 32), .ref (rm ja)])), ((xa 6), .inr (15, [.ref bv_5, .int (nI 0), .int ml_1, .int (nI ((wrA (Ms ja)).length))])), (bv_5, .inl (dA 2, (cpN bm (wrA (Ms ja)).length), .inl f_5))] H := hP
          have hD : va_D A [(ra_2, .inr (6, [.int (nI 32), .ref (rm ja)])), ((xa 6), .inr (15, [.ref bv_5, .int (nI 0), .int ml_1, .int (nI ((wrA (Ms ja)).length))])), (bv_5, .inl (dA 2, (cpN bm (wrA (Ms ja)).length), .inl f_5))] := hD
          subst hQe
          refine vx_ret ?_
          refine W.widen (k := 2000) (n := 4400) (by first | decide | omega) (by first | decide | omega) ?_
          exact W.iret (v := nI ((wrA (Ms ja)).length)) hx hb hr (fun tz ht hW => ⟨⟨_, (bv_5, ml_1, f_5), rfl, (by rw [e8]; exact ⟨rg_t h7ja, rfl, hOn, hf_5⟩), B1_at ht (by rw [e8]; exact hP.sub [1, 2] rfl) (by rw [e8]; exact hD.sub [1, 2] (by decide) rfl) trivial⟩, hS.F ht⟩) hS.2.2 dX1_write_139
      · have hkx : kk < 32 := decide_eq_true_iff.mp (bI_1 c_37)
        have hnz := hkz hkx
        obtain ⟨ga1, ga2, ga3, ga4, ga5, ga6, ga7⟩ := wr_ok sMj hkx
        have hkn := nx_le (M := Ms ja) (i := kk + 1) (by omega)
        refine lv_aload_n hx hb dX1_write_40 rfl (lv_at hl 2 rfl) ?_
        have hF9 := va_free (wc := [(ra_2, .inr (6, [.int (nI kk), .ref (rm ja)]))]) hD hS (fun q h => hA q h) [2] rfl
        refine c5_r (wr := [((xa 6), .inr (15, [.ref bv2, .int (nI 0), .int ml_1, .int (nI ((wrK (Ms ja) kk).length))])), (bv2, .inl (dA 2, (cpN bm (wrK (Ms ja) kk).length), .inl f2))]) (va_runF (As := []) (rest := []) (hK.1 6 _ rfl).2 ⟨hx, hb, hml, hown, hts⟩ (x10_next Z (va_A [(ra_2, .inr (6, [.int (nI kk), .ref (rm ja)]))] H.size) H.size (fun q h => Or.inr h) ra_2 (rm ja) (rr ja) (Ms ja) kk (by omega) (sR ja (by omega))) (va_cwF 0 hts (lw_F q962 q965 q967 q120 q969) rfl rfl rfl (fwZ Z hG (by decide +kernel) q964 q963 q968 q966 q949) (by decide +kernel) ⟨Nat.le_of_ble_eq_true rfl, Nat.le_of_ble_eq_true rfl⟩) (gP_V (va_recv hK hP (ci := 6) (q0 := 2) rfl rfl) hG hS (fun q _ h => hF9 q h) ⟨rfl, (hP.sub (ws' := [(ra_2, .inr (6, [.int (nI kk), .ref (rm ja)]))]) [2] rfl), (hD.sub (ws' := [(ra_2, .inr (6, [.int (nI kk), .ref (rm ja)]))]) [2] (by decide) rfl).self, (hR2.to hS (fun q _ h => hF9 q h))⟩) rfl rfl hl.1 rfl (lv_room (Nat.le_of_ble_eq_true rfl)) dX1_write_41 ⟨by first | decide | omega | (show _ ≤ (2000 : Nat); omega), by first | decide | omega | (show _ ≤ (4400 : Nat); omega)⟩) hP hD hS hA [2] [0, 1] rfl rfl (by decide) (by decide) (fun u9 ra9 H locs hq hX hz hk hP hD hS => ?_)
        obtain ⟨ra_7, rfl⟩ : ∃ z, z = ra9 := ⟨_, rfl⟩
        have hP : va_P (dC, dI) vwCl [((xa 6), .inr (15, [.ref bv2, .int (nI 0), .int ml_1, .int (nI ((wrK (Ms ja) kk).length))])), (bv2, .inl (dA 2, (cpN bm (wrK (Ms ja) kk).length), .inl f2)), (ra_2, .inr (6, [.int (nI (nxF (Ms ja) (kk + 1))), .ref (rm ja)])), (ra_7, .inr (5, [.int (nI kk), .long ((Ms ja) (kk + 1) / gcdL ((Ms ja) (kk + 1)) ((Ms ja) 0)), .long ((Ms ja) 0 / gcdL ((Ms ja) (kk + 1)) ((Ms ja) 0))]))] H := hP
        have hD : va_D A [((xa 6), .inr (15, [.ref bv2, .int (nI 0), .int ml_1, .int (nI ((wrK (Ms ja) kk).length))])), (bv2, .inl (dA 2, (cpN bm (wrK (Ms ja) kk).length), .inl f2)), (ra_2, .inr (6, [.int (nI (nxF (Ms ja) (kk + 1))), .ref (rm ja)])), (ra_7, .inr (5, [.int (nI kk), .long ((Ms ja) (kk + 1) / gcdL ((Ms ja) (kk + 1)) ((Ms ja) 0)), .long ((Ms ja) 0 / gcdL ((Ms ja) (kk + 1)) ((Ms ja) 0))]))] := hD
        refine va_castS hx hb hown (hts _ q579) (hK.1 5 _ rfl).2 (va_recv hK hP (ci := 5) (q0 := 3) rfl rfl) dX1_write_46 ?_
        refine lv_astore_n (lv' := [(3, .ref ra_7), (0, .ref (xa 0)), (1, .int (nI ja)), (2, .ref ra_2)]) hx hb dX1_write_49 rfl hl (by decide) rfl (fun ls hl => ?_)
        refine lv_aload_n hx hb dX1_write_50 rfl (lv_at hl 1 rfl) ?_
        refine va_get (D := (dC, dI)) (ci := 3) (v := .ref (xa 6)) (C := RX1) (T := TX1) (N := 9) hx hb hts in_X1 hown hK (hR0.up hS) 0 rfl rfl 8 (by decide) (hts _ q295) (fun _ h9 => h9) rfl dX1_write_51 ?_
        refine s_i (va_runV (As := []) (rest := []) ⟨hx, hb, hml, hown, hts⟩ (j1_length Z Y2 (xa 6) bv2 ((wrK (Ms ja) kk).length) ml_1) (cwV 0 hts (lw_V q1899 q1554 q2542 q104 q1555) rfl rfl rfl (by decide +kernel) ⟨Nat.le_of_ble_eq_true rfl, Nat.le_of_ble_eq_true rfl⟩) (gP_V (va_recv hK hP (ci := 15) (q0 := 0) rfl rfl) hG hS (fun q _ h => h.elim) (hP.sub (ws' := [((xa 6), .inr (15, [.ref bv2, .int (nI 0), .int ml_1, .int (nI ((wrK (Ms ja) kk).length))]))]) [0] rfl)) rfl rfl hl.1 rfl (lv_room (Nat.le_of_ble_eq_true rfl)) dX1_write_54 ⟨by first | decide | omega | (show _ ≤ (2000 : Nat); omega), by first | decide | omega | (show _ ≤ (4400 : Nat); omega)⟩) ?_
        refine lv_if_le (tgt := 87) hx hb dX1_write_57 (by decide) (fun c_57 => ?_) (fun c_57 => ?_)
        · have c_57 : ((wrK (Ms ja) kk).length) ≤ 0 := (nI_leI (a := ((wrK (Ms ja) kk).length)) (b := 0) (by omega) (by omega)).mp c_57
          refine lv_aload_n hx hb dX1_write_87 rfl (lv_at hl 0 rfl) ?_
          refine s_i (va_runV (As := []) (rest := []) ⟨hx, hb, hml, hown, hts⟩ (x9_isNegative Z ra_7 (nI kk) ((Ms ja) (kk + 1) / gcdL ((Ms ja) (kk + 1)) ((Ms ja) 0)) ((Ms ja) 0 / gcdL ((Ms ja) (kk + 1)) ((Ms ja) 0))) (cwV 0 hts (lw_V q1900 q1901 q1902 q117 q1903) rfl rfl rfl (by decide +kernel) ⟨Nat.le_of_ble_eq_true rfl, Nat.le_of_ble_eq_true rfl⟩) (gP_V (va_recv hK hP (ci := 5) (q0 := 3) rfl rfl) hG hS (fun q _ h => h.elim) (hP.sub (ws' := [(ra_7, .inr (5, [.int (nI kk), .long ((Ms ja) (kk + 1) / gcdL ((Ms ja) (kk + 1)) ((Ms ja) 0)), .long ((Ms ja) 0 / gcdL ((Ms ja) (kk + 1)) ((Ms ja) 0))]))]) [3] rfl)) rfl rfl hl.1 rfl (lv_room (Nat.le_of_ble_eq_true rfl)) dX1_write_88 ⟨by first | decide | omega | (show _ ≤ (2000 : Nat); omega), by first | decide | omega | (show _ ≤ (4400 : Nat); omega)⟩) ?_
          refine lv_if_eq (tgt := 104) hx hb dX1_write_91 (by decide) (fun c_91 => ?_) (fun c_91 => ?_)
          · have hng : decide (Ms ja (kk + 1) < 0) = false := by rw [← ga7]; exact bI_0 c_91
            refine lv_aload_n hx hb dX1_write_104 rfl (lv_at hl 1 rfl) ?_
            refine lv_aload_n hx hb dX1_write_105 rfl (lv_at hl 0 rfl) ?_
            have hql_7 : (wrQ (topN (Ms ja) kk) (botN (Ms ja) kk) kk).length ≤ 26 := ga6
            have hg1_7 : bm ≤ cpN bm ((wrK (Ms ja) kk).length + (wrQ (topN (Ms ja) kk) (botN (Ms ja) kk) kk).length) := cp_gem
            have hg2_7 : ((wrK (Ms ja) kk).length + (wrQ (topN (Ms ja) kk) (botN (Ms ja) kk) kk).length) ≤ cpN bm ((wrK (Ms ja) kk).length + (wrQ (topN (Ms ja) kk) (botN (Ms ja) kk) kk).length) := cp_ge
            have hg3_7 := cp_bd (m := bm) (N := ((wrK (Ms ja) kk).length + (wrQ (topN (Ms ja) kk) (botN (Ms ja) kk) kk).length))
            have hg4_7 : cpN bm (wrK (Ms ja) kk).length ≤ cpN (cpN bm (wrK (Ms ja) kk).length) ((wrK (Ms ja) kk).length + (wrQ (topN (Ms ja) kk) (botN (Ms ja) kk) kk).length) := cp_gem
            have hg5_7 : cpN (cpN bm (wrK (Ms ja) kk).length) ((wrK (Ms ja) kk).length + (wrQ (topN (Ms ja) kk) (botN (Ms ja) kk) kk).length) = cpN bm ((wrK (Ms ja) kk).length + (wrQ (topN (Ms ja) kk) (botN (Ms ja) kk) kk).length) := cp_two (by omega)
            have hF9 := va_free (wc := [((xa 6), .inr (15, [.ref bv2, .int (nI 0), .int ml_1, .int (nI ((wrK (Ms ja) kk).length))])), (bv2, .inl (dA 2, (cpN bm (wrK (Ms ja) kk).length), .inl f2))]) hD hS (fun q h => hA q h) [0, 1] rfl
            refine c_v (wr := [(ra_2, .inr (6, [.int (nI (nxF (Ms ja) (kk + 1))), .ref (rm ja)])), (ra_7, .inr (5, [.int (nI kk), .long ((Ms ja) (kk + 1) / gcdL ((Ms ja) (kk + 1)) ((Ms ja) 0)), .long ((Ms ja) 0 / gcdL ((Ms ja) (kk + 1)) ((Ms ja) 0))]))]) (va_runV (As := [.ref ra_7]) (rest := []) ⟨hx, hb, hml, hown, hts⟩ (x1_writeTerm Z (va_A [((xa 6), .inr (15, [.ref bv2, .int (nI 0), .int ml_1, .int (nI ((wrK (Ms ja) kk).length))])), (bv2, .inl (dA 2, (cpN bm (wrK (Ms ja) kk).length), .inl f2))] H.size) H.size (fun q h => Or.inr h) Y2 xa tl ec ep bv2 (cpN bm (wrK (Ms ja) kk).length) ((wrK (Ms ja) kk).length) ml_1 f2 (wrK (Ms ja) kk) ra_7 kk (topN (Ms ja) kk) (botN (Ms ja) kk) ((Ms ja) (kk + 1) / gcdL ((Ms ja) (kk + 1)) ((Ms ja) 0)) ((Ms ja) 0 / gcdL ((Ms ja) (kk + 1)) ((Ms ja) 0)) hnK hO2 hf2 (by omega) (by omega) (by omega) (by omega) (by omega) ga1 ga2 ga3 ga4 ga5) (cwV 1 hts (lw_V q1927 q1929 qs33 q96 q1930) rfl rfl rfl (by decide +kernel) ⟨Nat.le_of_ble_eq_true rfl, Nat.le_of_ble_eq_true rfl⟩) (gP_V (va_recv hK (hR0.up hS) (ci := 3) (q0 := 0) rfl rfl) hG hS (fun q _ h => hF9 q h) ⟨rfl, (hP.sub (ws' := [((xa 6), .inr (15, [.ref bv2, .int (nI 0), .int ml_1, .int (nI ((wrK (Ms ja) kk).length))])), (bv2, .inl (dA 2, (cpN bm (wrK (Ms ja) kk).length), .inl f2))]) [0, 1] rfl), (hD.sub (ws' := [((xa 6), .inr (15, [.ref bv2, .int (nI 0), .int ml_1, .int (nI ((wrK (Ms ja) kk).length))])), (bv2, .inl (dA 2, (cpN bm (wrK (Ms ja) kk).length), .inl f2))]) [0, 1] (by decide) rfl).self, ((hR0.to hS (fun q _ h => hF9 q h)).sub [0] rfl), (RO.beside (wr := [(ra_7, .inr (5, [.int (nI kk), .long ((Ms ja) (kk + 1) / gcdL ((Ms ja) (kk + 1)) ((Ms ja) 0)), .long ((Ms ja) 0 / gcdL ((Ms ja) (kk + 1)) ((Ms ja) 0))]))]) hP hD [0, 1] [3] rfl rfl (by decide))⟩) rfl rfl hl.1 rfl (lv_room (Nat.le_of_ble_eq_true rfl)) dX1_write_106 ⟨by first | decide | omega | (show _ ≤ (2000 : Nat); omega), by first | decide | omega | (show _ ≤ (4400 : Nat); omega)⟩) hP hD hS hA [0, 1] [2, 3] rfl rfl (by decide) (by decide) (fun u9 H locs hq hX hz hk hP hD hS => ?_)
            obtain ⟨bv_7, f_7⟩ := u9
            obtain ⟨hO_7, hf_7⟩ := hq
            have hn_7 : (wrK (Ms ja) kk ++ wrQ (topN (Ms ja) kk) (botN (Ms ja) kk) kk).length = ((wrK (Ms ja) kk).length + (wrQ (topN (Ms ja) kk) (botN (Ms ja) kk) kk).length) := by rw [List.length_append, hnK]
            have hP : va_P (dC, dI) vwCl [(ra_2, .inr (6, [.int (nI (nxF (Ms ja) (kk + 1))), .ref (rm ja)])), (ra_7, .inr (5, [.int (nI kk), .long ((Ms ja) (kk + 1) / gcdL ((Ms ja) (kk + 1)) ((Ms ja) 0)), .long ((Ms ja) 0 / gcdL ((Ms ja) (kk + 1)) ((Ms ja) 0))])), ((xa 6), .inr (15, [.ref bv_7, .int (nI 0), .int ml_1, .int (nI ((wrK (Ms ja) kk).length + (wrQ (topN (Ms ja) kk) (botN (Ms ja) kk) kk).length))])), (bv_7, .inl (dA 2, (cpN (cpN bm (wrK (Ms ja) kk).length) ((wrK (Ms ja) kk).length + (wrQ (topN (Ms ja) kk) (botN (Ms ja) kk) kk).length)), .inl f_7))] H := hP
            have hD : va_D A [(ra_2, .inr (6, [.int (nI (nxF (Ms ja) (kk + 1))), .ref (rm ja)])), (ra_7, .inr (5, [.int (nI kk), .long ((Ms ja) (kk + 1) / gcdL ((Ms ja) (kk + 1)) ((Ms ja) 0)), .long ((Ms ja) 0 / gcdL ((Ms ja) (kk + 1)) ((Ms ja) 0))])), ((xa 6), .inr (15, [.ref bv_7, .int (nI 0), .int ml_1, .int (nI ((wrK (Ms ja) kk).length + (wrQ (topN (Ms ja) kk) (botN (Ms ja) kk) kk).length))])), (bv_7, .inl (dA 2, (cpN (cpN bm (wrK (Ms ja) kk).length) ((wrK (Ms ja) kk).length + (wrQ (topN (Ms ja) kk) (botN (Ms ja) kk) kk).length)), .inl f_7))] := hD
            rw [hg5_7] at hP hD
            have hP : va_P (dC, dI) vwCl [(ra_2, .inr (6, [.int (nI (nxF (Ms ja) (kk + 1))), .ref (rm ja)])), (ra_7, .inr (5, [.int (nI kk), .long ((Ms ja) (kk + 1) / gcdL ((Ms ja) (kk + 1)) ((Ms ja) 0)), .long ((Ms ja) 0 / gcdL ((Ms ja) (kk + 1)) ((Ms ja) 0))])), ((xa 6), .inr (15, [.ref bv_7, .int (nI 0), .int ml_1, .int (nI ((wrK (Ms ja) kk).length + (wrQ (topN (Ms ja) kk) (botN (Ms ja) kk) kk).length))])), (bv_7, .inl (dA 2, (cpN bm ((wrK (Ms ja) kk).length + (wrQ (topN (Ms ja) kk) (botN (Ms ja) kk) kk).length)), .inl f_7))] H := hP
            have hD : va_D A [(ra_2, .inr (6, [.int (nI (nxF (Ms ja) (kk + 1))), .ref (rm ja)])), (ra_7, .inr (5, [.int (nI kk), .long ((Ms ja) (kk + 1) / gcdL ((Ms ja) (kk + 1)) ((Ms ja) 0)), .long ((Ms ja) 0 / gcdL ((Ms ja) (kk + 1)) ((Ms ja) 0))])), ((xa 6), .inr (15, [.ref bv_7, .int (nI 0), .int ml_1, .int (nI ((wrK (Ms ja) kk).length + (wrQ (topN (Ms ja) kk) (botN (Ms ja) kk) kk).length))])), (bv_7, .inl (dA 2, (cpN bm ((wrK (Ms ja) kk).length + (wrQ (topN (Ms ja) kk) (botN (Ms ja) kk) kk).length)), .inl f_7))] := hD
            refine e_w (20 + kk + 1 + cpN bm ((wrK (Ms ja) kk).length + (wrQ (topN (Ms ja) kk) (botN (Ms ja) kk) kk).length) - bm) (60 + 3 * kk + 3 + 2 * (cpN bm ((wrK (Ms ja) kk).length + (wrQ (topN (Ms ja) kk) (botN (Ms ja) kk) kk).length) - bm)) (by omega) (by omega) ?_
            have hLn : wrK (Ms ja) kk ++ wrQ (topN (Ms ja) kk) (botN (Ms ja) kk) kk = wrK (Ms ja) (nxF (Ms ja) (kk + 1)) := by rw [wrK_nx2 (show kk + 1 ≤ 32 by omega), wrK_s hnz, hng, wrP_3 (by omega)]; rfl
            have hnn : (wrK (Ms ja) kk).length + (wrQ (topN (Ms ja) kk) (botN (Ms ja) kk) kk).length = (wrK (Ms ja) (nxF (Ms ja) (kk + 1))).length := by rw [← hLn]; exact hn_7.symm
            rw [hnn] at hP hD
            rw [hnn]
            have hOn := hO_7
            rw [hLn] at hOn
            have hP : va_P (dC, dI) vwCl [(ra_2, .inr (6, [.int (nI (nxF (Ms ja) (kk + 1))), .ref (rm ja)])), (ra_7, .inr (5, [.int (nI kk), .long ((Ms ja) (kk + 1) / gcdL ((Ms ja) (kk + 1)) ((Ms ja) 0)), .long ((Ms ja) 0 / gcdL ((Ms ja) (kk + 1)) ((Ms ja) 0))])), ((xa 6), .inr (15, [.ref bv_7, .int (nI 0), .int ml_1, .int (nI ((wrK (Ms ja) (nxF (Ms ja) (kk + 1))).length))])), (bv_7, .inl (dA 2, (cpN bm (wrK (Ms ja) (nxF (Ms ja) (kk + 1))).length), .inl f_7))] H := hP
            have hD : va_D A [(ra_2, .inr (6, [.int (nI (nxF (Ms ja) (kk + 1))), .ref (rm ja)])), (ra_7, .inr (5, [.int (nI kk), .long ((Ms ja) (kk + 1) / gcdL ((Ms ja) (kk + 1)) ((Ms ja) 0)), .long ((Ms ja) 0 / gcdL ((Ms ja) (kk + 1)) ((Ms ja) 0))])), ((xa 6), .inr (15, [.ref bv_7, .int (nI 0), .int ml_1, .int (nI ((wrK (Ms ja) (nxF (Ms ja) (kk + 1))).length))])), (bv_7, .inl (dA 2, (cpN bm (wrK (Ms ja) (nxF (Ms ja) (kk + 1))).length), .inl f_7))] := hD
            have hlk2 := wrK_len sMj (nxF (Ms ja) (kk + 1)) hkn.2
            have hg1n : bm ≤ cpN bm (wrK (Ms ja) (nxF (Ms ja) (kk + 1))).length := cp_gem
            refine lv_goto (tgt := 31) hx hb dX1_write_109 (by decide) ?_
            refine W.widen (k := 20 + nxF (Ms ja) (kk + 1) + (cpN bm (wrK (Ms ja) (nxF (Ms ja) (kk + 1))).length - bm)) (n := 60 + 3 * nxF (Ms ja) (kk + 1) + 2 * (cpN bm (wrK (Ms ja) (nxF (Ms ja) (kk + 1))).length - bm)) (by omega) (by omega) ?_
            exact ih_3 (nxF (Ms ja) (kk + 1)) bv_7 f_7 H locs ls (by omega) hkn.2 (fun h => nx_nz (by omega) h) hOn hf_7 (hP.sub [0, 2, 3] rfl) (hD.sub [0, 2, 3] (by decide) rfl) hS (lv_sub hl [1, 2, 3] rfl)
          · have hng : decide (Ms ja (kk + 1) < 0) = true := by rw [← ga7]; exact bI_1 c_91
            refine lv_aload_n hx hb dX1_write_94 rfl (lv_at hl 1 rfl) ?_
            refine va_get (D := (dC, dI)) (ci := 3) (v := .ref (xa 6)) (C := RX1) (T := TX1) (N := 9) hx hb hts in_X1 hown hK (hR0.up hS) 0 rfl rfl 8 (by decide) (hts _ q295) (fun _ h9 => h9) rfl dX1_write_95 ?_
            refine lv_bipush (v := nI 45) hx hb dX1_write_98 (by decide) ?_
            have hg1_8 : bm ≤ cpN bm ((wrK (Ms ja) kk).length + 1) := cp_gem
            have hg2_8 : ((wrK (Ms ja) kk).length + 1) ≤ cpN bm ((wrK (Ms ja) kk).length + 1) := cp_ge
            have hg3_8 := cp_bd (m := bm) (N := ((wrK (Ms ja) kk).length + 1))
            have hg4_8 : cpN bm (wrK (Ms ja) kk).length ≤ cpN (cpN bm (wrK (Ms ja) kk).length) ((wrK (Ms ja) kk).length + 1) := cp_gem
            have hg5_8 : cpN (cpN bm (wrK (Ms ja) kk).length) ((wrK (Ms ja) kk).length + 1) = cpN bm ((wrK (Ms ja) kk).length + 1) := cp_two (by omega)
            have hg7_8 := cp_ge (m := bm) (N := (wrK (Ms ja) kk).length)
            have hF9 := va_free (wc := [((xa 6), .inr (15, [.ref bv2, .int (nI 0), .int ml_1, .int (nI ((wrK (Ms ja) kk).length))])), (bv2, .inl (dA 2, (cpN bm (wrK (Ms ja) kk).length), .inl f2))]) hD hS (fun q h => hA q h) [0, 1] rfl
            refine c_r (wr := [(ra_2, .inr (6, [.int (nI (nxF (Ms ja) (kk + 1))), .ref (rm ja)])), (ra_7, .inr (5, [.int (nI kk), .long ((Ms ja) (kk + 1) / gcdL ((Ms ja) (kk + 1)) ((Ms ja) 0)), .long ((Ms ja) 0 / gcdL ((Ms ja) (kk + 1)) ((Ms ja) 0))]))]) (va_runV (As := [.int (nI 45)]) (rest := []) ⟨hx, hb, hml, hown, hts⟩ (j1_appendC Z (va_A [((xa 6), .inr (15, [.ref bv2, .int (nI 0), .int ml_1, .int (nI ((wrK (Ms ja) kk).length))])), (bv2, .inl (dA 2, (cpN bm (wrK (Ms ja) kk).length), .inl f2))] H.size) H.size (fun q h => Or.inr h) Y2 (xa 6) bv2 (cpN bm (wrK (Ms ja) kk).length) ((wrK (Ms ja) kk).length) ml_1 f2 (wrK (Ms ja) kk) 45 hnK hO2 hf2  (by omega) (by omega) (by omega)) (cwV 1 hts (lw_V q1907 q1908 q1909 q104 q1910) rfl rfl rfl (by decide +kernel) ⟨Nat.le_of_ble_eq_true rfl, Nat.le_of_ble_eq_true rfl⟩) (gP_V (va_recv hK hP (ci := 15) (q0 := 0) rfl rfl) hG hS (fun q _ h => hF9 q h) ⟨rfl, (hP.sub (ws' := [((xa 6), .inr (15, [.ref bv2, .int (nI 0), .int ml_1, .int (nI ((wrK (Ms ja) kk).length))])), (bv2, .inl (dA 2, (cpN bm (wrK (Ms ja) kk).length), .inl f2))]) [0, 1] rfl), (hD.sub (ws' := [((xa 6), .inr (15, [.ref bv2, .int (nI 0), .int ml_1, .int (nI ((wrK (Ms ja) kk).length))])), (bv2, .inl (dA 2, (cpN bm (wrK (Ms ja) kk).length), .inl f2))]) [0, 1] (by decide) rfl).self⟩) rfl rfl hl.1 rfl (lv_room (Nat.le_of_ble_eq_true rfl)) dX1_write_100 ⟨by first | decide | omega | (show _ ≤ (2000 : Nat); omega), by first | decide | omega | (show _ ≤ (4400 : Nat); omega)⟩) hP hD hS hA [0, 1] [2, 3] rfl rfl (by decide) (by decide) (fun u9 ra9 H locs hq hX hz hk hP hD hS => ?_)
            obtain ⟨ra_9, rfl⟩ : ∃ z, z = ra9 := ⟨_, rfl⟩
            obtain ⟨bv_9, f_9⟩ := u9
            obtain ⟨hO_9, hf_9⟩ := hq
            refine e_v (y := .ref (xa 6)) (congrArg Value.ref hX) ?_
            have hn_9 : (wrK (Ms ja) kk ++ [45]).length = (wrK (Ms ja) kk).length + 1 := (by rw [List.length_append, hnK]; first | rfl | simp)
            have hP : va_P (dC, dI) vwCl [(ra_2, .inr (6, [.int (nI (nxF (Ms ja) (kk + 1))), .ref (rm ja)])), (ra_7, .inr (5, [.int (nI kk), .long ((Ms ja) (kk + 1) / gcdL ((Ms ja) (kk + 1)) ((Ms ja) 0)), .long ((Ms ja) 0 / gcdL ((Ms ja) (kk + 1)) ((Ms ja) 0))])), ((xa 6), .inr (15, [.ref bv_9, .int (nI 0), .int ml_1, .int (nI ((wrK (Ms ja) kk).length + 1))])), (bv_9, .inl (dA 2, (cpN (cpN bm (wrK (Ms ja) kk).length) ((wrK (Ms ja) kk).length + 1)), .inl f_9))] H := hP
            have hD : va_D A [(ra_2, .inr (6, [.int (nI (nxF (Ms ja) (kk + 1))), .ref (rm ja)])), (ra_7, .inr (5, [.int (nI kk), .long ((Ms ja) (kk + 1) / gcdL ((Ms ja) (kk + 1)) ((Ms ja) 0)), .long ((Ms ja) 0 / gcdL ((Ms ja) (kk + 1)) ((Ms ja) 0))])), ((xa 6), .inr (15, [.ref bv_9, .int (nI 0), .int ml_1, .int (nI ((wrK (Ms ja) kk).length + 1))])), (bv_9, .inl (dA 2, (cpN (cpN bm (wrK (Ms ja) kk).length) ((wrK (Ms ja) kk).length + 1)), .inl f_9))] := hD
            rw [hg5_8] at hP hD
            have hP : va_P (dC, dI) vwCl [(ra_2, .inr (6, [.int (nI (nxF (Ms ja) (kk + 1))), .ref (rm ja)])), (ra_7, .inr (5, [.int (nI kk), .long ((Ms ja) (kk + 1) / gcdL ((Ms ja) (kk + 1)) ((Ms ja) 0)), .long ((Ms ja) 0 / gcdL ((Ms ja) (kk + 1)) ((Ms ja) 0))])), ((xa 6), .inr (15, [.ref bv_9, .int (nI 0), .int ml_1, .int (nI ((wrK (Ms ja) kk).length + 1))])), (bv_9, .inl (dA 2, (cpN bm ((wrK (Ms ja) kk).length + 1)), .inl f_9))] H := hP
            have hD : va_D A [(ra_2, .inr (6, [.int (nI (nxF (Ms ja) (kk + 1))), .ref (rm ja)])), (ra_7, .inr (5, [.int (nI kk), .long ((Ms ja) (kk + 1) / gcdL ((Ms ja) (kk + 1)) ((Ms ja) 0)), .long ((Ms ja) 0 / gcdL ((Ms ja) (kk + 1)) ((Ms ja) 0))])), ((xa 6), .inr (15, [.ref bv_9, .int (nI 0), .int ml_1, .int (nI ((wrK (Ms ja) kk).length + 1))])), (bv_9, .inl (dA 2, (cpN bm ((wrK (Ms ja) kk).length + 1)), .inl f_9))] := hD
            refine e_w (20 + kk + 1 + cpN bm ((wrK (Ms ja) kk).length + 1) - bm) (60 + 3 * kk + 3 + 2 * (cpN bm ((wrK (Ms ja) kk).length + 1) - bm)) (by omega) (by omega) ?_
            refine lv_pop hx hb dX1_write_103 rfl ?_
            refine lv_aload_n hx hb dX1_write_104 rfl (lv_at hl 1 rfl) ?_
            refine lv_aload_n hx hb dX1_write_105 rfl (lv_at hl 0 rfl) ?_
            have hql_10 : (wrQ (topN (Ms ja) kk) (botN (Ms ja) kk) kk).length ≤ 26 := ga6
            have hg1_10 : bm ≤ cpN bm ((wrK (Ms ja) kk).length + 1 + (wrQ (topN (Ms ja) kk) (botN (Ms ja) kk) kk).length) := cp_gem
            have hg2_10 : ((wrK (Ms ja) kk).length + 1 + (wrQ (topN (Ms ja) kk) (botN (Ms ja) kk) kk).length) ≤ cpN bm ((wrK (Ms ja) kk).length + 1 + (wrQ (topN (Ms ja) kk) (botN (Ms ja) kk) kk).length) := cp_ge
            have hg3_10 := cp_bd (m := bm) (N := ((wrK (Ms ja) kk).length + 1 + (wrQ (topN (Ms ja) kk) (botN (Ms ja) kk) kk).length))
            have hg4_10 : cpN bm ((wrK (Ms ja) kk).length + 1) ≤ cpN (cpN bm ((wrK (Ms ja) kk).length + 1)) ((wrK (Ms ja) kk).length + 1 + (wrQ (topN (Ms ja) kk) (botN (Ms ja) kk) kk).length) := cp_gem
            have hg5_10 : cpN (cpN bm ((wrK (Ms ja) kk).length + 1)) ((wrK (Ms ja) kk).length + 1 + (wrQ (topN (Ms ja) kk) (botN (Ms ja) kk) kk).length) = cpN bm ((wrK (Ms ja) kk).length + 1 + (wrQ (topN (Ms ja) kk) (botN (Ms ja) kk) kk).length) := cp_two (by omega)
            have hF9 := va_free (wc := [((xa 6), .inr (15, [.ref bv_9, .int (nI 0), .int ml_1, .int (nI ((wrK (Ms ja) kk).length + 1))])), (bv_9, .inl (dA 2, (cpN bm ((wrK (Ms ja) kk).length + 1)), .inl f_9))]) hD hS (fun q h => hA q h) [2, 3] rfl
            refine c_v (wr := [(ra_2, .inr (6, [.int (nI (nxF (Ms ja) (kk + 1))), .ref (rm ja)])), (ra_7, .inr (5, [.int (nI kk), .long ((Ms ja) (kk + 1) / gcdL ((Ms ja) (kk + 1)) ((Ms ja) 0)), .long ((Ms ja) 0 / gcdL ((Ms ja) (kk + 1)) ((Ms ja) 0))]))]) (va_runV (As := [.ref ra_7]) (rest := []) ⟨hx, hb, hml, hown, hts⟩ (x1_writeTerm Z (va_A [((xa 6), .inr (15, [.ref bv_9, .int (nI 0), .int ml_1, .int (nI ((wrK (Ms ja) kk).length + 1))])), (bv_9, .inl (dA 2, (cpN bm ((wrK (Ms ja) kk).length + 1)), .inl f_9))] H.size) H.size (fun q h => Or.inr h) Y2 xa tl ec ep bv_9 (cpN bm ((wrK (Ms ja) kk).length + 1)) ((wrK (Ms ja) kk).length + 1) ml_1 f_9 (wrK (Ms ja) kk ++ [45]) ra_7 kk (topN (Ms ja) kk) (botN (Ms ja) kk) ((Ms ja) (kk + 1) / gcdL ((Ms ja) (kk + 1)) ((Ms ja) 0)) ((Ms ja) 0 / gcdL ((Ms ja) (kk + 1)) ((Ms ja) 0)) hn_9 hO_9 hf_9 (by omega) (by omega) (by omega) (by omega) (by omega) ga1 ga2 ga3 ga4 ga5) (cwV 1 hts (lw_V q1927 q1929 qs33 q96 q1930) rfl rfl rfl (by decide +kernel) ⟨Nat.le_of_ble_eq_true rfl, Nat.le_of_ble_eq_true rfl⟩) (gP_V (va_recv hK (hR0.up hS) (ci := 3) (q0 := 0) rfl rfl) hG hS (fun q _ h => hF9 q h) ⟨rfl, (hP.sub (ws' := [((xa 6), .inr (15, [.ref bv_9, .int (nI 0), .int ml_1, .int (nI ((wrK (Ms ja) kk).length + 1))])), (bv_9, .inl (dA 2, (cpN bm ((wrK (Ms ja) kk).length + 1)), .inl f_9))]) [2, 3] rfl), (hD.sub (ws' := [((xa 6), .inr (15, [.ref bv_9, .int (nI 0), .int ml_1, .int (nI ((wrK (Ms ja) kk).length + 1))])), (bv_9, .inl (dA 2, (cpN bm ((wrK (Ms ja) kk).length + 1)), .inl f_9))]) [2, 3] (by decide) rfl).self, ((hR0.to hS (fun q _ h => hF9 q h)).sub [0] rfl), (RO.beside (wr := [(ra_7, .inr (5, [.int (nI kk), .long ((Ms ja) (kk + 1) / gcdL ((Ms ja) (kk + 1)) ((Ms ja) 0)), .long ((Ms ja) 0 / gcdL ((Ms ja) (kk + 1)) ((Ms ja) 0))]))]) hP hD [2, 3] [1] rfl rfl (by decide))⟩) rfl rfl hl.1 rfl (lv_room (Nat.le_of_ble_eq_true rfl)) dX1_write_106 ⟨by first | decide | omega | (show _ ≤ (2000 : Nat); omega), by first | decide | omega | (show _ ≤ (4400 : Nat); omega)⟩) hP hD hS hA [2, 3] [0, 1] rfl rfl (by decide) (by decide) (fun u9 H locs hq hX hz hk hP hD hS => ?_)
            obtain ⟨bv_10, f_10⟩ := u9
            obtain ⟨hO_10, hf_10⟩ := hq
            have hn_10 : (wrK (Ms ja) kk ++ [45] ++ wrQ (topN (Ms ja) kk) (botN (Ms ja) kk) kk).length = ((wrK (Ms ja) kk).length + 1 + (wrQ (topN (Ms ja) kk) (botN (Ms ja) kk) kk).length) := by rw [List.length_append, hn_9]
            have hP : va_P (dC, dI) vwCl [(ra_2, .inr (6, [.int (nI (nxF (Ms ja) (kk + 1))), .ref (rm ja)])), (ra_7, .inr (5, [.int (nI kk), .long ((Ms ja) (kk + 1) / gcdL ((Ms ja) (kk + 1)) ((Ms ja) 0)), .long ((Ms ja) 0 / gcdL ((Ms ja) (kk + 1)) ((Ms ja) 0))])), ((xa 6), .inr (15, [.ref bv_10, .int (nI 0), .int ml_1, .int (nI ((wrK (Ms ja) kk).length + 1 + (wrQ (topN (Ms ja) kk) (botN (Ms ja) kk) kk).length))])), (bv_10, .inl (dA 2, (cpN (cpN bm ((wrK (Ms ja) kk).length + 1)) ((wrK (Ms ja) kk).length + 1 + (wrQ (topN (Ms ja) kk) (botN (Ms ja) kk) kk).length)), .inl f_10))] H := hP
            have hD : va_D A [(ra_2, .inr (6, [.int (nI (nxF (Ms ja) (kk + 1))), .ref (rm ja)])), (ra_7, .inr (5, [.int (nI kk), .long ((Ms ja) (kk + 1) / gcdL ((Ms ja) (kk + 1)) ((Ms ja) 0)), .long ((Ms ja) 0 / gcdL ((Ms ja) (kk + 1)) ((Ms ja) 0))])), ((xa 6), .inr (15, [.ref bv_10, .int (nI 0), .int ml_1, .int (nI ((wrK (Ms ja) kk).length + 1 + (wrQ (topN (Ms ja) kk) (botN (Ms ja) kk) kk).length))])), (bv_10, .inl (dA 2, (cpN (cpN bm ((wrK (Ms ja) kk).length + 1)) ((wrK (Ms ja) kk).length + 1 + (wrQ (topN (Ms ja) kk) (botN (Ms ja) kk) kk).length)), .inl f_10))] := hD
            rw [hg5_10] at hP hD
            have hP : va_P (dC, dI) vwCl [(ra_2, .inr (6, [.int (nI (nxF (Ms ja) (kk + 1))), .ref (rm ja)])), (ra_7, .inr (5, [.int (nI kk), .long ((Ms ja) (kk + 1) / gcdL ((Ms ja) (kk + 1)) ((Ms ja) 0)), .long ((Ms ja) 0 / gcdL ((Ms ja) (kk + 1)) ((Ms ja) 0))])), ((xa 6), .inr (15, [.ref bv_10, .int (nI 0), .int ml_1, .int (nI ((wrK (Ms ja) kk).length + 1 + (wrQ (topN (Ms ja) kk) (botN (Ms ja) kk) kk).length))])), (bv_10, .inl (dA 2, (cpN bm ((wrK (Ms ja) kk).length + 1 + (wrQ (topN (Ms ja) kk) (botN (Ms ja) kk) kk).length)), .inl f_10))] H := hP
            have hD : va_D A [(ra_2, .inr (6, [.int (nI (nxF (Ms ja) (kk + 1))), .ref (rm ja)])), (ra_7, .inr (5, [.int (nI kk), .long ((Ms ja) (kk + 1) / gcdL ((Ms ja) (kk + 1)) ((Ms ja) 0)), .long ((Ms ja) 0 / gcdL ((Ms ja) (kk + 1)) ((Ms ja) 0))])), ((xa 6), .inr (15, [.ref bv_10, .int (nI 0), .int ml_1, .int (nI ((wrK (Ms ja) kk).length + 1 + (wrQ (topN (Ms ja) kk) (botN (Ms ja) kk) kk).length))])), (bv_10, .inl (dA 2, (cpN bm ((wrK (Ms ja) kk).length + 1 + (wrQ (topN (Ms ja) kk) (botN (Ms ja) kk) kk).length)), .inl f_10))] := hD
            refine e_w (20 + kk + 1 + cpN bm ((wrK (Ms ja) kk).length + 1 + (wrQ (topN (Ms ja) kk) (botN (Ms ja) kk) kk).length) - bm) (60 + 3 * kk + 3 + 2 * (cpN bm ((wrK (Ms ja) kk).length + 1 + (wrQ (topN (Ms ja) kk) (botN (Ms ja) kk) kk).length) - bm)) (by omega) (by omega) ?_
            have hLn : wrK (Ms ja) kk ++ [45] ++ wrQ (topN (Ms ja) kk) (botN (Ms ja) kk) kk = wrK (Ms ja) (nxF (Ms ja) (kk + 1)) := by rw [wrK_nx2 (show kk + 1 ≤ 32 by omega), wrK_s hnz, hng, wrP_2 (by omega)]; rfl
            have hnn : (wrK (Ms ja) kk).length + 1 + (wrQ (topN (Ms ja) kk) (botN (Ms ja) kk) kk).length = (wrK (Ms ja) (nxF (Ms ja) (kk + 1))).length := by rw [← hLn]; exact hn_10.symm
            rw [hnn] at hP hD
            rw [hnn]
            have hOn := hO_10
            rw [hLn] at hOn
            have hP : va_P (dC, dI) vwCl [(ra_2, .inr (6, [.int (nI (nxF (Ms ja) (kk + 1))), .ref (rm ja)])), (ra_7, .inr (5, [.int (nI kk), .long ((Ms ja) (kk + 1) / gcdL ((Ms ja) (kk + 1)) ((Ms ja) 0)), .long ((Ms ja) 0 / gcdL ((Ms ja) (kk + 1)) ((Ms ja) 0))])), ((xa 6), .inr (15, [.ref bv_10, .int (nI 0), .int ml_1, .int (nI ((wrK (Ms ja) (nxF (Ms ja) (kk + 1))).length))])), (bv_10, .inl (dA 2, (cpN bm (wrK (Ms ja) (nxF (Ms ja) (kk + 1))).length), .inl f_10))] H := hP
            have hD : va_D A [(ra_2, .inr (6, [.int (nI (nxF (Ms ja) (kk + 1))), .ref (rm ja)])), (ra_7, .inr (5, [.int (nI kk), .long ((Ms ja) (kk + 1) / gcdL ((Ms ja) (kk + 1)) ((Ms ja) 0)), .long ((Ms ja) 0 / gcdL ((Ms ja) (kk + 1)) ((Ms ja) 0))])), ((xa 6), .inr (15, [.ref bv_10, .int (nI 0), .int ml_1, .int (nI ((wrK (Ms ja) (nxF (Ms ja) (kk + 1))).length))])), (bv_10, .inl (dA 2, (cpN bm (wrK (Ms ja) (nxF (Ms ja) (kk + 1))).length), .inl f_10))] := hD
            have hlk2 := wrK_len sMj (nxF (Ms ja) (kk + 1)) hkn.2
            have hg1n : bm ≤ cpN bm (wrK (Ms ja) (nxF (Ms ja) (kk + 1))).length := cp_gem
            refine lv_goto (tgt := 31) hx hb dX1_write_109 (by decide) ?_
            refine W.widen (k := 20 + nxF (Ms ja) (kk + 1) + (cpN bm (wrK (Ms ja) (nxF (Ms ja) (kk + 1))).length - bm)) (n := 60 + 3 * nxF (Ms ja) (kk + 1) + 2 * (cpN bm (wrK (Ms ja) (nxF (Ms ja) (kk + 1))).length - bm)) (by omega) (by omega) ?_
            exact ih_3 (nxF (Ms ja) (kk + 1)) bv_10 f_10 H locs ls (by omega) hkn.2 (fun h => nx_nz (by omega) h) hOn hf_10 (hP.sub [0, 2, 3] rfl) (hD.sub [0, 2, 3] (by decide) rfl) hS (lv_sub hl [1, 2, 3] rfl)
        · have c_57 : ¬ ((wrK (Ms ja) kk).length) ≤ 0 := fun h => c_57 ((nI_leI (a := ((wrK (Ms ja) kk).length)) (b := 0) (by omega) (by omega)).mpr h)
          refine lv_aload_n hx hb dX1_write_60 rfl (lv_at hl 1 rfl) ?_
          refine va_get (D := (dC, dI)) (ci := 3) (v := .ref (xa 6)) (C := RX1) (T := TX1) (N := 9) hx hb hts in_X1 hown hK (hR0.up hS) 0 rfl rfl 8 (by decide) (hts _ q295) (fun _ h9 => h9) rfl dX1_write_61 ?_
          refine lv_aload_n hx hb dX1_write_64 rfl (lv_at hl 0 rfl) ?_
          refine s_i (va_runV (As := []) (rest := [.ref (xa 6)]) ⟨hx, hb, hml, hown, hts⟩ (x9_isNegative Z ra_7 (nI kk) ((Ms ja) (kk + 1) / gcdL ((Ms ja) (kk + 1)) ((Ms ja) 0)) ((Ms ja) 0 / gcdL ((Ms ja) (kk + 1)) ((Ms ja) 0))) (cwV 0 hts (lw_V q1900 q1901 q1902 q117 q1903) rfl rfl rfl (by decide +kernel) ⟨Nat.le_of_ble_eq_true rfl, Nat.le_of_ble_eq_true rfl⟩) (gP_V (va_recv hK hP (ci := 5) (q0 := 3) rfl rfl) hG hS (fun q _ h => h.elim) (hP.sub (ws' := [(ra_7, .inr (5, [.int (nI kk), .long ((Ms ja) (kk + 1) / gcdL ((Ms ja) (kk + 1)) ((Ms ja) 0)), .long ((Ms ja) 0 / gcdL ((Ms ja) (kk + 1)) ((Ms ja) 0))]))]) [3] rfl)) rfl rfl hl.1 rfl (lv_room (Nat.le_of_ble_eq_true rfl)) dX1_write_65 ⟨by first | decide | omega | (show _ ≤ (2000 : Nat); omega), by first | decide | omega | (show _ ≤ (4400 : Nat); omega)⟩) ?_
          refine lv_if_eq (tgt := 77) hx hb dX1_write_68 (by decide) (fun c_68 => ?_) (fun c_68 => ?_)
          · have hng : decide (Ms ja (kk + 1) < 0) = false := by rw [← ga7]; exact bI_0 c_68
            refine a_ldcwS hx hb hown (vk_R.warm hG.1 (S2.s2 Y2).1) dX1_write_77 ?_
            have hg1_11 : bm ≤ cpN bm ((wrK (Ms ja) kk).length + 3) := cp_gem
            have hg2_11 : ((wrK (Ms ja) kk).length + 3) ≤ cpN bm ((wrK (Ms ja) kk).length + 3) := cp_ge
            have hg3_11 := cp_bd (m := bm) (N := ((wrK (Ms ja) kk).length + 3))
            have hg4_11 : cpN bm (wrK (Ms ja) kk).length ≤ cpN (cpN bm (wrK (Ms ja) kk).length) ((wrK (Ms ja) kk).length + 3) := cp_gem
            have hg5_11 : cpN (cpN bm (wrK (Ms ja) kk).length) ((wrK (Ms ja) kk).length + 3) = cpN bm ((wrK (Ms ja) kk).length + 3) := cp_two (by omega)
            have hF9 := va_free (wc := [((xa 6), .inr (15, [.ref bv2, .int (nI 0), .int ml_1, .int (nI ((wrK (Ms ja) kk).length))])), (bv2, .inl (dA 2, (cpN bm (wrK (Ms ja) kk).length), .inl f2))]) hD hS (fun q h => hA q h) [0, 1] rfl
            refine c_r (wr := [(ra_2, .inr (6, [.int (nI (nxF (Ms ja) (kk + 1))), .ref (rm ja)])), (ra_7, .inr (5, [.int (nI kk), .long ((Ms ja) (kk + 1) / gcdL ((Ms ja) (kk + 1)) ((Ms ja) 0)), .long ((Ms ja) 0 / gcdL ((Ms ja) (kk + 1)) ((Ms ja) 0))]))]) (va_runV (As := [.ref (σ 67)]) (rest := []) ⟨hx, hb, hml, hown, hts⟩ (j1_appendS Z (va_A [((xa 6), .inr (15, [.ref bv2, .int (nI 0), .int ml_1, .int (nI ((wrK (Ms ja) kk).length))])), (bv2, .inl (dA 2, (cpN bm (wrK (Ms ja) kk).length), .inl f2))] H.size) H.size (fun q h => Or.inr h) Y2 (xa 6) bv2 (cpN bm (wrK (Ms ja) kk).length) ((wrK (Ms ja) kk).length) ml_1 f2 (wrK (Ms ja) kk) (σ 67) (σ 68) 3 (fun j => nI ([32, 43, 32].getD j 0)) [32, 43, 32] hnK hO2 hf2  (by omega) (by omega) (S2.s2 Y2).2 (str_fit (by decide)) rfl (str_O (by decide)) (by omega) (by omega)) (cwV 1 hts (lw_V q1906 q1423 q1424 q104 q1425) rfl rfl rfl (by decide +kernel) ⟨Nat.le_of_ble_eq_true rfl, Nat.le_of_ble_eq_true rfl⟩) (gP_V (va_recv hK hP (ci := 15) (q0 := 0) rfl rfl) hG hS (fun q _ h => hF9 q h) ⟨rfl, (hP.sub (ws' := [((xa 6), .inr (15, [.ref bv2, .int (nI 0), .int ml_1, .int (nI ((wrK (Ms ja) kk).length))])), (bv2, .inl (dA 2, (cpN bm (wrK (Ms ja) kk).length), .inl f2))]) [0, 1] rfl), (hD.sub (ws' := [((xa 6), .inr (15, [.ref bv2, .int (nI 0), .int ml_1, .int (nI ((wrK (Ms ja) kk).length))])), (bv2, .inl (dA 2, (cpN bm (wrK (Ms ja) kk).length), .inl f2))]) [0, 1] (by decide) rfl).self⟩) rfl rfl hl.1 rfl (lv_room (Nat.le_of_ble_eq_true rfl)) dX1_write_80 ⟨by first | decide | omega | (show _ ≤ (2000 : Nat); omega), by first | decide | omega | (show _ ≤ (4400 : Nat); omega)⟩) hP hD hS hA [0, 1] [2, 3] rfl rfl (by decide) (by decide) (fun u9 ra9 H locs hq hX hz hk hP hD hS => ?_)
            obtain ⟨ra_12, rfl⟩ : ∃ z, z = ra9 := ⟨_, rfl⟩
            obtain ⟨bv_12, f_12⟩ := u9
            obtain ⟨hO_12, hf_12⟩ := hq
            refine e_v (y := .ref (xa 6)) (congrArg Value.ref hX) ?_
            have hn_12 : (wrK (Ms ja) kk ++ [32, 43, 32]).length = (wrK (Ms ja) kk).length + 3 := (by rw [List.length_append, hnK]; rfl)
            have hP : va_P (dC, dI) vwCl [(ra_2, .inr (6, [.int (nI (nxF (Ms ja) (kk + 1))), .ref (rm ja)])), (ra_7, .inr (5, [.int (nI kk), .long ((Ms ja) (kk + 1) / gcdL ((Ms ja) (kk + 1)) ((Ms ja) 0)), .long ((Ms ja) 0 / gcdL ((Ms ja) (kk + 1)) ((Ms ja) 0))])), ((xa 6), .inr (15, [.ref bv_12, .int (nI 0), .int ml_1, .int (nI ((wrK (Ms ja) kk).length + 3))])), (bv_12, .inl (dA 2, (cpN (cpN bm (wrK (Ms ja) kk).length) ((wrK (Ms ja) kk).length + 3)), .inl f_12))] H := hP
            have hD : va_D A [(ra_2, .inr (6, [.int (nI (nxF (Ms ja) (kk + 1))), .ref (rm ja)])), (ra_7, .inr (5, [.int (nI kk), .long ((Ms ja) (kk + 1) / gcdL ((Ms ja) (kk + 1)) ((Ms ja) 0)), .long ((Ms ja) 0 / gcdL ((Ms ja) (kk + 1)) ((Ms ja) 0))])), ((xa 6), .inr (15, [.ref bv_12, .int (nI 0), .int ml_1, .int (nI ((wrK (Ms ja) kk).length + 3))])), (bv_12, .inl (dA 2, (cpN (cpN bm (wrK (Ms ja) kk).length) ((wrK (Ms ja) kk).length + 3)), .inl f_12))] := hD
            rw [hg5_11] at hP hD
            have hP : va_P (dC, dI) vwCl [(ra_2, .inr (6, [.int (nI (nxF (Ms ja) (kk + 1))), .ref (rm ja)])), (ra_7, .inr (5, [.int (nI kk), .long ((Ms ja) (kk + 1) / gcdL ((Ms ja) (kk + 1)) ((Ms ja) 0)), .long ((Ms ja) 0 / gcdL ((Ms ja) (kk + 1)) ((Ms ja) 0))])), ((xa 6), .inr (15, [.ref bv_12, .int (nI 0), .int ml_1, .int (nI ((wrK (Ms ja) kk).length + 3))])), (bv_12, .inl (dA 2, (cpN bm ((wrK (Ms ja) kk).length + 3)), .inl f_12))] H := hP
            have hD : va_D A [(ra_2, .inr (6, [.int (nI (nxF (Ms ja) (kk + 1))), .ref (rm ja)])), (ra_7, .inr (5, [.int (nI kk), .long ((Ms ja) (kk + 1) / gcdL ((Ms ja) (kk + 1)) ((Ms ja) 0)), .long ((Ms ja) 0 / gcdL ((Ms ja) (kk + 1)) ((Ms ja) 0))])), ((xa 6), .inr (15, [.ref bv_12, .int (nI 0), .int ml_1, .int (nI ((wrK (Ms ja) kk).length + 3))])), (bv_12, .inl (dA 2, (cpN bm ((wrK (Ms ja) kk).length + 3)), .inl f_12))] := hD
            refine e_w (20 + kk + 1 + cpN bm ((wrK (Ms ja) kk).length + 3) - bm) (60 + 3 * kk + 3 + 2 * (cpN bm ((wrK (Ms ja) kk).length + 3) - bm)) (by omega) (by omega) ?_
            refine lv_pop hx hb dX1_write_83 rfl ?_
            refine lv_goto (tgt := 104) hx hb dX1_write_84 (by decide) ?_
            refine lv_aload_n hx hb dX1_write_104 rfl (lv_at hl 1 rfl) ?_
            refine lv_aload_n hx hb dX1_write_105 rfl (lv_at hl 0 rfl) ?_
            have hql_13 : (wrQ (topN (Ms ja) kk) (botN (Ms ja) kk) kk).length ≤ 26 := ga6
            have hg1_13 : bm ≤ cpN bm ((wrK (Ms ja) kk).length + 3 + (wrQ (topN (Ms ja) kk) (botN (Ms ja) kk) kk).length) := cp_gem
            have hg2_13 : ((wrK (Ms ja) kk).length + 3 + (wrQ (topN (Ms ja) kk) (botN (Ms ja) kk) kk).length) ≤ cpN bm ((wrK (Ms ja) kk).length + 3 + (wrQ (topN (Ms ja) kk) (botN (Ms ja) kk) kk).length) := cp_ge
            have hg3_13 := cp_bd (m := bm) (N := ((wrK (Ms ja) kk).length + 3 + (wrQ (topN (Ms ja) kk) (botN (Ms ja) kk) kk).length))
            have hg4_13 : cpN bm ((wrK (Ms ja) kk).length + 3) ≤ cpN (cpN bm ((wrK (Ms ja) kk).length + 3)) ((wrK (Ms ja) kk).length + 3 + (wrQ (topN (Ms ja) kk) (botN (Ms ja) kk) kk).length) := cp_gem
            have hg5_13 : cpN (cpN bm ((wrK (Ms ja) kk).length + 3)) ((wrK (Ms ja) kk).length + 3 + (wrQ (topN (Ms ja) kk) (botN (Ms ja) kk) kk).length) = cpN bm ((wrK (Ms ja) kk).length + 3 + (wrQ (topN (Ms ja) kk) (botN (Ms ja) kk) kk).length) := cp_two (by omega)
            have hF9 := va_free (wc := [((xa 6), .inr (15, [.ref bv_12, .int (nI 0), .int ml_1, .int (nI ((wrK (Ms ja) kk).length + 3))])), (bv_12, .inl (dA 2, (cpN bm ((wrK (Ms ja) kk).length + 3)), .inl f_12))]) hD hS (fun q h => hA q h) [2, 3] rfl
            refine c_v (wr := [(ra_2, .inr (6, [.int (nI (nxF (Ms ja) (kk + 1))), .ref (rm ja)])), (ra_7, .inr (5, [.int (nI kk), .long ((Ms ja) (kk + 1) / gcdL ((Ms ja) (kk + 1)) ((Ms ja) 0)), .long ((Ms ja) 0 / gcdL ((Ms ja) (kk + 1)) ((Ms ja) 0))]))]) (va_runV (As := [.ref ra_7]) (rest := []) ⟨hx, hb, hml, hown, hts⟩ (x1_writeTerm Z (va_A [((xa 6), .inr (15, [.ref bv_12, .int (nI 0), .int ml_1, .int (nI ((wrK (Ms ja) kk).length + 3))])), (bv_12, .inl (dA 2, (cpN bm ((wrK (Ms ja) kk).length + 3)), .inl f_12))] H.size) H.size (fun q h => Or.inr h) Y2 xa tl ec ep bv_12 (cpN bm ((wrK (Ms ja) kk).length + 3)) ((wrK (Ms ja) kk).length + 3) ml_1 f_12 (wrK (Ms ja) kk ++ [32, 43, 32]) ra_7 kk (topN (Ms ja) kk) (botN (Ms ja) kk) ((Ms ja) (kk + 1) / gcdL ((Ms ja) (kk + 1)) ((Ms ja) 0)) ((Ms ja) 0 / gcdL ((Ms ja) (kk + 1)) ((Ms ja) 0)) hn_12 hO_12 hf_12 (by omega) (by omega) (by omega) (by omega) (by omega) ga1 ga2 ga3 ga4 ga5) (cwV 1 hts (lw_V q1927 q1929 qs33 q96 q1930) rfl rfl rfl (by decide +kernel) ⟨Nat.le_of_ble_eq_true rfl, Nat.le_of_ble_eq_true rfl⟩) (gP_V (va_recv hK (hR0.up hS) (ci := 3) (q0 := 0) rfl rfl) hG hS (fun q _ h => hF9 q h) ⟨rfl, (hP.sub (ws' := [((xa 6), .inr (15, [.ref bv_12, .int (nI 0), .int ml_1, .int (nI ((wrK (Ms ja) kk).length + 3))])), (bv_12, .inl (dA 2, (cpN bm ((wrK (Ms ja) kk).length + 3)), .inl f_12))]) [2, 3] rfl), (hD.sub (ws' := [((xa 6), .inr (15, [.ref bv_12, .int (nI 0), .int ml_1, .int (nI ((wrK (Ms ja) kk).length + 3))])), (bv_12, .inl (dA 2, (cpN bm ((wrK (Ms ja) kk).length + 3)), .inl f_12))]) [2, 3] (by decide) rfl).self, ((hR0.to hS (fun q _ h => hF9 q h)).sub [0] rfl), (RO.beside (wr := [(ra_7, .inr (5, [.int (nI kk), .long ((Ms ja) (kk + 1) / gcdL ((Ms ja) (kk + 1)) ((Ms ja) 0)), .long ((Ms ja) 0 / gcdL ((Ms ja) (kk + 1)) ((Ms ja) 0))]))]) hP hD [2, 3] [1] rfl rfl (by decide))⟩) rfl rfl hl.1 rfl (lv_room (Nat.le_of_ble_eq_true rfl)) dX1_write_106 ⟨by first | decide | omega | (show _ ≤ (2000 : Nat); omega), by first | decide | omega | (show _ ≤ (4400 : Nat); omega)⟩) hP hD hS hA [2, 3] [0, 1] rfl rfl (by decide) (by decide) (fun u9 H locs hq hX hz hk hP hD hS => ?_)
            obtain ⟨bv_13, f_13⟩ := u9
            obtain ⟨hO_13, hf_13⟩ := hq
            have hn_13 : (wrK (Ms ja) kk ++ [32, 43, 32] ++ wrQ (topN (Ms ja) kk) (botN (Ms ja) kk) kk).length = ((wrK (Ms ja) kk).length + 3 + (wrQ (topN (Ms ja) kk) (botN (Ms ja) kk) kk).length) := by rw [List.length_append, hn_12]
            have hP : va_P (dC, dI) vwCl [(ra_2, .inr (6, [.int (nI (nxF (Ms ja) (kk + 1))), .ref (rm ja)])), (ra_7, .inr (5, [.int (nI kk), .long ((Ms ja) (kk + 1) / gcdL ((Ms ja) (kk + 1)) ((Ms ja) 0)), .long ((Ms ja) 0 / gcdL ((Ms ja) (kk + 1)) ((Ms ja) 0))])), ((xa 6), .inr (15, [.ref bv_13, .int (nI 0), .int ml_1, .int (nI ((wrK (Ms ja) kk).length + 3 + (wrQ (topN (Ms ja) kk) (botN (Ms ja) kk) kk).length))])), (bv_13, .inl (dA 2, (cpN (cpN bm ((wrK (Ms ja) kk).length + 3)) ((wrK (Ms ja) kk).length + 3 + (wrQ (topN (Ms ja) kk) (botN (Ms ja) kk) kk).length)), .inl f_13))] H := hP
            have hD : va_D A [(ra_2, .inr (6, [.int (nI (nxF (Ms ja) (kk + 1))), .ref (rm ja)])), (ra_7, .inr (5, [.int (nI kk), .long ((Ms ja) (kk + 1) / gcdL ((Ms ja) (kk + 1)) ((Ms ja) 0)), .long ((Ms ja) 0 / gcdL ((Ms ja) (kk + 1)) ((Ms ja) 0))])), ((xa 6), .inr (15, [.ref bv_13, .int (nI 0), .int ml_1, .int (nI ((wrK (Ms ja) kk).length + 3 + (wrQ (topN (Ms ja) kk) (botN (Ms ja) kk) kk).length))])), (bv_13, .inl (dA 2, (cpN (cpN bm ((wrK (Ms ja) kk).length + 3)) ((wrK (Ms ja) kk).length + 3 + (wrQ (topN (Ms ja) kk) (botN (Ms ja) kk) kk).length)), .inl f_13))] := hD
            rw [hg5_13] at hP hD
            have hP : va_P (dC, dI) vwCl [(ra_2, .inr (6, [.int (nI (nxF (Ms ja) (kk + 1))), .ref (rm ja)])), (ra_7, .inr (5, [.int (nI kk), .long ((Ms ja) (kk + 1) / gcdL ((Ms ja) (kk + 1)) ((Ms ja) 0)), .long ((Ms ja) 0 / gcdL ((Ms ja) (kk + 1)) ((Ms ja) 0))])), ((xa 6), .inr (15, [.ref bv_13, .int (nI 0), .int ml_1, .int (nI ((wrK (Ms ja) kk).length + 3 + (wrQ (topN (Ms ja) kk) (botN (Ms ja) kk) kk).length))])), (bv_13, .inl (dA 2, (cpN bm ((wrK (Ms ja) kk).length + 3 + (wrQ (topN (Ms ja) kk) (botN (Ms ja) kk) kk).length)), .inl f_13))] H := hP
            have hD : va_D A [(ra_2, .inr (6, [.int (nI (nxF (Ms ja) (kk + 1))), .ref (rm ja)])), (ra_7, .inr (5, [.int (nI kk), .long ((Ms ja) (kk + 1) / gcdL ((Ms ja) (kk + 1)) ((Ms ja) 0)), .long ((Ms ja) 0 / gcdL ((Ms ja) (kk + 1)) ((Ms ja) 0))])), ((xa 6), .inr (15, [.ref bv_13, .int (nI 0), .int ml_1, .int (nI ((wrK (Ms ja) kk).length + 3 + (wrQ (topN (Ms ja) kk) (botN (Ms ja) kk) kk).length))])), (bv_13, .inl (dA 2, (cpN bm ((wrK (Ms ja) kk).length + 3 + (wrQ (topN (Ms ja) kk) (botN (Ms ja) kk) kk).length)), .inl f_13))] := hD
            refine e_w (20 + kk + 1 + cpN bm ((wrK (Ms ja) kk).length + 3 + (wrQ (topN (Ms ja) kk) (botN (Ms ja) kk) kk).length) - bm) (60 + 3 * kk + 3 + 2 * (cpN bm ((wrK (Ms ja) kk).length + 3 + (wrQ (topN (Ms ja) kk) (botN (Ms ja) kk) kk).length) - bm)) (by omega) (by omega) ?_
            have hLn : wrK (Ms ja) kk ++ [32, 43, 32] ++ wrQ (topN (Ms ja) kk) (botN (Ms ja) kk) kk = wrK (Ms ja) (nxF (Ms ja) (kk + 1)) := by rw [wrK_nx2 (show kk + 1 ≤ 32 by omega), wrK_s hnz, hng, wrP_1 (by omega)]; rfl
            have hnn : (wrK (Ms ja) kk).length + 3 + (wrQ (topN (Ms ja) kk) (botN (Ms ja) kk) kk).length = (wrK (Ms ja) (nxF (Ms ja) (kk + 1))).length := by rw [← hLn]; exact hn_13.symm
            rw [hnn] at hP hD
            rw [hnn]
            have hOn := hO_13
            rw [hLn] at hOn
            have hP : va_P (dC, dI) vwCl [(ra_2, .inr (6, [.int (nI (nxF (Ms ja) (kk + 1))), .ref (rm ja)])), (ra_7, .inr (5, [.int (nI kk), .long ((Ms ja) (kk + 1) / gcdL ((Ms ja) (kk + 1)) ((Ms ja) 0)), .long ((Ms ja) 0 / gcdL ((Ms ja) (kk + 1)) ((Ms ja) 0))])), ((xa 6), .inr (15, [.ref bv_13, .int (nI 0), .int ml_1, .int (nI ((wrK (Ms ja) (nxF (Ms ja) (kk + 1))).length))])), (bv_13, .inl (dA 2, (cpN bm (wrK (Ms ja) (nxF (Ms ja) (kk + 1))).length), .inl f_13))] H := hP
            have hD : va_D A [(ra_2, .inr (6, [.int (nI (nxF (Ms ja) (kk + 1))), .ref (rm ja)])), (ra_7, .inr (5, [.int (nI kk), .long ((Ms ja) (kk + 1) / gcdL ((Ms ja) (kk + 1)) ((Ms ja) 0)), .long ((Ms ja) 0 / gcdL ((Ms ja) (kk + 1)) ((Ms ja) 0))])), ((xa 6), .inr (15, [.ref bv_13, .int (nI 0), .int ml_1, .int (nI ((wrK (Ms ja) (nxF (Ms ja) (kk + 1))).length))])), (bv_13, .inl (dA 2, (cpN bm (wrK (Ms ja) (nxF (Ms ja) (kk + 1))).length), .inl f_13))] := hD
            have hlk2 := wrK_len sMj (nxF (Ms ja) (kk + 1)) hkn.2
            have hg1n : bm ≤ cpN bm (wrK (Ms ja) (nxF (Ms ja) (kk + 1))).length := cp_gem
            refine lv_goto (tgt := 31) hx hb dX1_write_109 (by decide) ?_
            refine W.widen (k := 20 + nxF (Ms ja) (kk + 1) + (cpN bm (wrK (Ms ja) (nxF (Ms ja) (kk + 1))).length - bm)) (n := 60 + 3 * nxF (Ms ja) (kk + 1) + 2 * (cpN bm (wrK (Ms ja) (nxF (Ms ja) (kk + 1))).length - bm)) (by omega) (by omega) ?_
            exact ih_3 (nxF (Ms ja) (kk + 1)) bv_13 f_13 H locs ls (by omega) hkn.2 (fun h => nx_nz (by omega) h) hOn hf_13 (hP.sub [0, 2, 3] rfl) (hD.sub [0, 2, 3] (by decide) rfl) hS (lv_sub hl [1, 2, 3] rfl)
          · have hng : decide (Ms ja (kk + 1) < 0) = true := by rw [← ga7]; exact bI_1 c_68
            refine a_ldcwS hx hb hown (vk_R.warm hG.1 (S2.s1 Y2).1) dX1_write_71 ?_
            refine lv_goto (tgt := 80) hx hb dX1_write_74 (by decide) ?_
            have hg1_14 : bm ≤ cpN bm ((wrK (Ms ja) kk).length + 3) := cp_gem
            have hg2_14 : ((wrK (Ms ja) kk).length + 3) ≤ cpN bm ((wrK (Ms ja) kk).length + 3) := cp_ge
            have hg3_14 := cp_bd (m := bm) (N := ((wrK (Ms ja) kk).length + 3))
            have hg4_14 : cpN bm (wrK (Ms ja) kk).length ≤ cpN (cpN bm (wrK (Ms ja) kk).length) ((wrK (Ms ja) kk).length + 3) := cp_gem
            have hg5_14 : cpN (cpN bm (wrK (Ms ja) kk).length) ((wrK (Ms ja) kk).length + 3) = cpN bm ((wrK (Ms ja) kk).length + 3) := cp_two (by omega)
            have hF9 := va_free (wc := [((xa 6), .inr (15, [.ref bv2, .int (nI 0), .int ml_1, .int (nI ((wrK (Ms ja) kk).length))])), (bv2, .inl (dA 2, (cpN bm (wrK (Ms ja) kk).length), .inl f2))]) hD hS (fun q h => hA q h) [0, 1] rfl
            refine c_r (wr := [(ra_2, .inr (6, [.int (nI (nxF (Ms ja) (kk + 1))), .ref (rm ja)])), (ra_7, .inr (5, [.int (nI kk), .long ((Ms ja) (kk + 1) / gcdL ((Ms ja) (kk + 1)) ((Ms ja) 0)), .long ((Ms ja) 0 / gcdL ((Ms ja) (kk + 1)) ((Ms ja) 0))]))]) (va_runV (As := [.ref (σ 65)]) (rest := []) ⟨hx, hb, hml, hown, hts⟩ (j1_appendS Z (va_A [((xa 6), .inr (15, [.ref bv2, .int (nI 0), .int ml_1, .int (nI ((wrK (Ms ja) kk).length))])), (bv2, .inl (dA 2, (cpN bm (wrK (Ms ja) kk).length), .inl f2))] H.size) H.size (fun q h => Or.inr h) Y2 (xa 6) bv2 (cpN bm (wrK (Ms ja) kk).length) ((wrK (Ms ja) kk).length) ml_1 f2 (wrK (Ms ja) kk) (σ 65) (σ 66) 3 (fun j => nI ([32, 45, 32].getD j 0)) [32, 45, 32] hnK hO2 hf2  (by omega) (by omega) (S2.s1 Y2).2 (str_fit (by decide)) rfl (str_O (by decide)) (by omega) (by omega)) (cwV 1 hts (lw_V q1906 q1423 q1424 q104 q1425) rfl rfl rfl (by decide +kernel) ⟨Nat.le_of_ble_eq_true rfl, Nat.le_of_ble_eq_true rfl⟩) (gP_V (va_recv hK hP (ci := 15) (q0 := 0) rfl rfl) hG hS (fun q _ h => hF9 q h) ⟨rfl, (hP.sub (ws' := [((xa 6), .inr (15, [.ref bv2, .int (nI 0), .int ml_1, .int (nI ((wrK (Ms ja) kk).length))])), (bv2, .inl (dA 2, (cpN bm (wrK (Ms ja) kk).length), .inl f2))]) [0, 1] rfl), (hD.sub (ws' := [((xa 6), .inr (15, [.ref bv2, .int (nI 0), .int ml_1, .int (nI ((wrK (Ms ja) kk).length))])), (bv2, .inl (dA 2, (cpN bm (wrK (Ms ja) kk).length), .inl f2))]) [0, 1] (by decide) rfl).self⟩) rfl rfl hl.1 rfl (lv_room (Nat.le_of_ble_eq_true rfl)) dX1_write_80 ⟨by first | decide | omega | (show _ ≤ (2000 : Nat); omega), by first | decide | omega | (show _ ≤ (4400 : Nat); omega)⟩) hP hD hS hA [0, 1] [2, 3] rfl rfl (by decide) (by decide) (fun u9 ra9 H locs hq hX hz hk hP hD hS => ?_)
            obtain ⟨ra_15, rfl⟩ : ∃ z, z = ra9 := ⟨_, rfl⟩
            obtain ⟨bv_15, f_15⟩ := u9
            obtain ⟨hO_15, hf_15⟩ := hq
            refine e_v (y := .ref (xa 6)) (congrArg Value.ref hX) ?_
            have hn_15 : (wrK (Ms ja) kk ++ [32, 45, 32]).length = (wrK (Ms ja) kk).length + 3 := (by rw [List.length_append, hnK]; rfl)
            have hP : va_P (dC, dI) vwCl [(ra_2, .inr (6, [.int (nI (nxF (Ms ja) (kk + 1))), .ref (rm ja)])), (ra_7, .inr (5, [.int (nI kk), .long ((Ms ja) (kk + 1) / gcdL ((Ms ja) (kk + 1)) ((Ms ja) 0)), .long ((Ms ja) 0 / gcdL ((Ms ja) (kk + 1)) ((Ms ja) 0))])), ((xa 6), .inr (15, [.ref bv_15, .int (nI 0), .int ml_1, .int (nI ((wrK (Ms ja) kk).length + 3))])), (bv_15, .inl (dA 2, (cpN (cpN bm (wrK (Ms ja) kk).length) ((wrK (Ms ja) kk).length + 3)), .inl f_15))] H := hP
            have hD : va_D A [(ra_2, .inr (6, [.int (nI (nxF (Ms ja) (kk + 1))), .ref (rm ja)])), (ra_7, .inr (5, [.int (nI kk), .long ((Ms ja) (kk + 1) / gcdL ((Ms ja) (kk + 1)) ((Ms ja) 0)), .long ((Ms ja) 0 / gcdL ((Ms ja) (kk + 1)) ((Ms ja) 0))])), ((xa 6), .inr (15, [.ref bv_15, .int (nI 0), .int ml_1, .int (nI ((wrK (Ms ja) kk).length + 3))])), (bv_15, .inl (dA 2, (cpN (cpN bm (wrK (Ms ja) kk).length) ((wrK (Ms ja) kk).length + 3)), .inl f_15))] := hD
            rw [hg5_14] at hP hD
            have hP : va_P (dC, dI) vwCl [(ra_2, .inr (6, [.int (nI (nxF (Ms ja) (kk + 1))), .ref (rm ja)])), (ra_7, .inr (5, [.int (nI kk), .long ((Ms ja) (kk + 1) / gcdL ((Ms ja) (kk + 1)) ((Ms ja) 0)), .long ((Ms ja) 0 / gcdL ((Ms ja) (kk + 1)) ((Ms ja) 0))])), ((xa 6), .inr (15, [.ref bv_15, .int (nI 0), .int ml_1, .int (nI ((wrK (Ms ja) kk).length + 3))])), (bv_15, .inl (dA 2, (cpN bm ((wrK (Ms ja) kk).length + 3)), .inl f_15))] H := hP
            have hD : va_D A [(ra_2, .inr (6, [.int (nI (nxF (Ms ja) (kk + 1))), .ref (rm ja)])), (ra_7, .inr (5, [.int (nI kk), .long ((Ms ja) (kk + 1) / gcdL ((Ms ja) (kk + 1)) ((Ms ja) 0)), .long ((Ms ja) 0 / gcdL ((Ms ja) (kk + 1)) ((Ms ja) 0))])), ((xa 6), .inr (15, [.ref bv_15, .int (nI 0), .int ml_1, .int (nI ((wrK (Ms ja) kk).length + 3))])), (bv_15, .inl (dA 2, (cpN bm ((wrK (Ms ja) kk).length + 3)), .inl f_15))] := hD
            refine e_w (20 + kk + 1 + cpN bm ((wrK (Ms ja) kk).length + 3) - bm) (60 + 3 * kk + 3 + 2 * (cpN bm ((wrK (Ms ja) kk).length + 3) - bm)) (by omega) (by omega) ?_
            refine lv_pop hx hb dX1_write_83 rfl ?_
            refine lv_goto (tgt := 104) hx hb dX1_write_84 (by decide) ?_
            refine lv_aload_n hx hb dX1_write_104 rfl (lv_at hl 1 rfl) ?_
            refine lv_aload_n hx hb dX1_write_105 rfl (lv_at hl 0 rfl) ?_
            have hql_16 : (wrQ (topN (Ms ja) kk) (botN (Ms ja) kk) kk).length ≤ 26 := ga6
            have hg1_16 : bm ≤ cpN bm ((wrK (Ms ja) kk).length + 3 + (wrQ (topN (Ms ja) kk) (botN (Ms ja) kk) kk).length) := cp_gem
            have hg2_16 : ((wrK (Ms ja) kk).length + 3 + (wrQ (topN (Ms ja) kk) (botN (Ms ja) kk) kk).length) ≤ cpN bm ((wrK (Ms ja) kk).length + 3 + (wrQ (topN (Ms ja) kk) (botN (Ms ja) kk) kk).length) := cp_ge
            have hg3_16 := cp_bd (m := bm) (N := ((wrK (Ms ja) kk).length + 3 + (wrQ (topN (Ms ja) kk) (botN (Ms ja) kk) kk).length))
            have hg4_16 : cpN bm ((wrK (Ms ja) kk).length + 3) ≤ cpN (cpN bm ((wrK (Ms ja) kk).length + 3)) ((wrK (Ms ja) kk).length + 3 + (wrQ (topN (Ms ja) kk) (botN (Ms ja) kk) kk).length) := cp_gem
            have hg5_16 : cpN (cpN bm ((wrK (Ms ja) kk).length + 3)) ((wrK (Ms ja) kk).length + 3 + (wrQ (topN (Ms ja) kk) (botN (Ms ja) kk) kk).length) = cpN bm ((wrK (Ms ja) kk).length + 3 + (wrQ (topN (Ms ja) kk) (botN (Ms ja) kk) kk).length) := cp_two (by omega)
            have hF9 := va_free (wc := [((xa 6), .inr (15, [.ref bv_15, .int (nI 0), .int ml_1, .int (nI ((wrK (Ms ja) kk).length + 3))])), (bv_15, .inl (dA 2, (cpN bm ((wrK (Ms ja) kk).length + 3)), .inl f_15))]) hD hS (fun q h => hA q h) [2, 3] rfl
            refine c_v (wr := [(ra_2, .inr (6, [.int (nI (nxF (Ms ja) (kk + 1))), .ref (rm ja)])), (ra_7, .inr (5, [.int (nI kk), .long ((Ms ja) (kk + 1) / gcdL ((Ms ja) (kk + 1)) ((Ms ja) 0)), .long ((Ms ja) 0 / gcdL ((Ms ja) (kk + 1)) ((Ms ja) 0))]))]) (va_runV (As := [.ref ra_7]) (rest := []) ⟨hx, hb, hml, hown, hts⟩ (x1_writeTerm Z (va_A [((xa 6), .inr (15, [.ref bv_15, .int (nI 0), .int ml_1, .int (nI ((wrK (Ms ja) kk).length + 3))])), (bv_15, .inl (dA 2, (cpN bm ((wrK (Ms ja) kk).length + 3)), .inl f_15))] H.size) H.size (fun q h => Or.inr h) Y2 xa tl ec ep bv_15 (cpN bm ((wrK (Ms ja) kk).length + 3)) ((wrK (Ms ja) kk).length + 3) ml_1 f_15 (wrK (Ms ja) kk ++ [32, 45, 32]) ra_7 kk (topN (Ms ja) kk) (botN (Ms ja) kk) ((Ms ja) (kk + 1) / gcdL ((Ms ja) (kk + 1)) ((Ms ja) 0)) ((Ms ja) 0 / gcdL ((Ms ja) (kk + 1)) ((Ms ja) 0)) hn_15 hO_15 hf_15 (by omega) (by omega) (by omega) (by omega) (by omega) ga1 ga2 ga3 ga4 ga5) (cwV 1 hts (lw_V q1927 q1929 qs33 q96 q1930) rfl rfl rfl (by decide +kernel) ⟨Nat.le_of_ble_eq_true rfl, Nat.le_of_ble_eq_true rfl⟩) (gP_V (va_recv hK (hR0.up hS) (ci := 3) (q0 := 0) rfl rfl) hG hS (fun q _ h => hF9 q h) ⟨rfl, (hP.sub (ws' := [((xa 6), .inr (15, [.ref bv_15, .int (nI 0), .int ml_1, .int (nI ((wrK (Ms ja) kk).length + 3))])), (bv_15, .inl (dA 2, (cpN bm ((wrK (Ms ja) kk).length + 3)), .inl f_15))]) [2, 3] rfl), (hD.sub (ws' := [((xa 6), .inr (15, [.ref bv_15, .int (nI 0), .int ml_1, .int (nI ((wrK (Ms ja) kk).length + 3))])), (bv_15, .inl (dA 2, (cpN bm ((wrK (Ms ja) kk).length + 3)), .inl f_15))]) [2, 3] (by decide) rfl).self, ((hR0.to hS (fun q _ h => hF9 q h)).sub [0] rfl), (RO.beside (wr := [(ra_7, .inr (5, [.int (nI kk), .long ((Ms ja) (kk + 1) / gcdL ((Ms ja) (kk + 1)) ((Ms ja) 0)), .long ((Ms ja) 0 / gcdL ((Ms ja) (kk + 1)) ((Ms ja) 0))]))]) hP hD [2, 3] [1] rfl rfl (by decide))⟩) rfl rfl hl.1 rfl (lv_room (Nat.le_of_ble_eq_true rfl)) dX1_write_106 ⟨by first | decide | omega | (show _ ≤ (2000 : Nat); omega), by first | decide | omega | (show _ ≤ (4400 : Nat); omega)⟩) hP hD hS hA [2, 3] [0, 1] rfl rfl (by decide) (by decide) (fun u9 H locs hq hX hz hk hP hD hS => ?_)
            obtain ⟨bv_16, f_16⟩ := u9
            obtain ⟨hO_16, hf_16⟩ := hq
            have hn_16 : (wrK (Ms ja) kk ++ [32, 45, 32] ++ wrQ (topN (Ms ja) kk) (botN (Ms ja) kk) kk).length = ((wrK (Ms ja) kk).length + 3 + (wrQ (topN (Ms ja) kk) (botN (Ms ja) kk) kk).length) := by rw [List.length_append, hn_15]
            have hP : va_P (dC, dI) vwCl [(ra_2, .inr (6, [.int (nI (nxF (Ms ja) (kk + 1))), .ref (rm ja)])), (ra_7, .inr (5, [.int (nI kk), .long ((Ms ja) (kk + 1) / gcdL ((Ms ja) (kk + 1)) ((Ms ja) 0)), .long ((Ms ja) 0 / gcdL ((Ms ja) (kk + 1)) ((Ms ja) 0))])), ((xa 6), .inr (15, [.ref bv_16, .int (nI 0), .int ml_1, .int (nI ((wrK (Ms ja) kk).length + 3 + (wrQ (topN (Ms ja) kk) (botN (Ms ja) kk) kk).length))])), (bv_16, .inl (dA 2, (cpN (cpN bm ((wrK (Ms ja) kk).length + 3)) ((wrK (Ms ja) kk).length + 3 + (wrQ (topN (Ms ja) kk) (botN (Ms ja) kk) kk).length)), .inl f_16))] H := hP
            have hD : va_D A [(ra_2, .inr (6, [.int (nI (nxF (Ms ja) (kk + 1))), .ref (rm ja)])), (ra_7, .inr (5, [.int (nI kk), .long ((Ms ja) (kk + 1) / gcdL ((Ms ja) (kk + 1)) ((Ms ja) 0)), .long ((Ms ja) 0 / gcdL ((Ms ja) (kk + 1)) ((Ms ja) 0))])), ((xa 6), .inr (15, [.ref bv_16, .int (nI 0), .int ml_1, .int (nI ((wrK (Ms ja) kk).length + 3 + (wrQ (topN (Ms ja) kk) (botN (Ms ja) kk) kk).length))])), (bv_16, .inl (dA 2, (cpN (cpN bm ((wrK (Ms ja) kk).length + 3)) ((wrK (Ms ja) kk).length + 3 + (wrQ (topN (Ms ja) kk) (botN (Ms ja) kk) kk).length)), .inl f_16))] := hD
            rw [hg5_16] at hP hD
            have hP : va_P (dC, dI) vwCl [(ra_2, .inr (6, [.int (nI (nxF (Ms ja) (kk + 1))), .ref (rm ja)])), (ra_7, .inr (5, [.int (nI kk), .long ((Ms ja) (kk + 1) / gcdL ((Ms ja) (kk + 1)) ((Ms ja) 0)), .long ((Ms ja) 0 / gcdL ((Ms ja) (kk + 1)) ((Ms ja) 0))])), ((xa 6), .inr (15, [.ref bv_16, .int (nI 0), .int ml_1, .int (nI ((wrK (Ms ja) kk).length + 3 + (wrQ (topN (Ms ja) kk) (botN (Ms ja) kk) kk).length))])), (bv_16, .inl (dA 2, (cpN bm ((wrK (Ms ja) kk).length + 3 + (wrQ (topN (Ms ja) kk) (botN (Ms ja) kk) kk).length)), .inl f_16))] H := hP
            have hD : va_D A [(ra_2, .inr (6, [.int (nI (nxF (Ms ja) (kk + 1))), .ref (rm ja)])), (ra_7, .inr (5, [.int (nI kk), .long ((Ms ja) (kk + 1) / gcdL ((Ms ja) (kk + 1)) ((Ms ja) 0)), .long ((Ms ja) 0 / gcdL ((Ms ja) (kk + 1)) ((Ms ja) 0))])), ((xa 6), .inr (15, [.ref bv_16, .int (nI 0), .int ml_1, .int (nI ((wrK (Ms ja) kk).length + 3 + (wrQ (topN (Ms ja) kk) (botN (Ms ja) kk) kk).length))])), (bv_16, .inl (dA 2, (cpN bm ((wrK (Ms ja) kk).length + 3 + (wrQ (topN (Ms ja) kk) (botN (Ms ja) kk) kk).length)), .inl f_16))] := hD
            refine e_w (20 + kk + 1 + cpN bm ((wrK (Ms ja) kk).length + 3 + (wrQ (topN (Ms ja) kk) (botN (Ms ja) kk) kk).length) - bm) (60 + 3 * kk + 3 + 2 * (cpN bm ((wrK (Ms ja) kk).length + 3 + (wrQ (topN (Ms ja) kk) (botN (Ms ja) kk) kk).length) - bm)) (by omega) (by omega) ?_
            have hLn : wrK (Ms ja) kk ++ [32, 45, 32] ++ wrQ (topN (Ms ja) kk) (botN (Ms ja) kk) kk = wrK (Ms ja) (nxF (Ms ja) (kk + 1)) := by rw [wrK_nx2 (show kk + 1 ≤ 32 by omega), wrK_s hnz, hng, wrP_1 (by omega)]; rfl
            have hnn : (wrK (Ms ja) kk).length + 3 + (wrQ (topN (Ms ja) kk) (botN (Ms ja) kk) kk).length = (wrK (Ms ja) (nxF (Ms ja) (kk + 1))).length := by rw [← hLn]; exact hn_16.symm
            rw [hnn] at hP hD
            rw [hnn]
            have hOn := hO_16
            rw [hLn] at hOn
            have hP : va_P (dC, dI) vwCl [(ra_2, .inr (6, [.int (nI (nxF (Ms ja) (kk + 1))), .ref (rm ja)])), (ra_7, .inr (5, [.int (nI kk), .long ((Ms ja) (kk + 1) / gcdL ((Ms ja) (kk + 1)) ((Ms ja) 0)), .long ((Ms ja) 0 / gcdL ((Ms ja) (kk + 1)) ((Ms ja) 0))])), ((xa 6), .inr (15, [.ref bv_16, .int (nI 0), .int ml_1, .int (nI ((wrK (Ms ja) (nxF (Ms ja) (kk + 1))).length))])), (bv_16, .inl (dA 2, (cpN bm (wrK (Ms ja) (nxF (Ms ja) (kk + 1))).length), .inl f_16))] H := hP
            have hD : va_D A [(ra_2, .inr (6, [.int (nI (nxF (Ms ja) (kk + 1))), .ref (rm ja)])), (ra_7, .inr (5, [.int (nI kk), .long ((Ms ja) (kk + 1) / gcdL ((Ms ja) (kk + 1)) ((Ms ja) 0)), .long ((Ms ja) 0 / gcdL ((Ms ja) (kk + 1)) ((Ms ja) 0))])), ((xa 6), .inr (15, [.ref bv_16, .int (nI 0), .int ml_1, .int (nI ((wrK (Ms ja) (nxF (Ms ja) (kk + 1))).length))])), (bv_16, .inl (dA 2, (cpN bm (wrK (Ms ja) (nxF (Ms ja) (kk + 1))).length), .inl f_16))] := hD
            have hlk2 := wrK_len sMj (nxF (Ms ja) (kk + 1)) hkn.2
            have hg1n : bm ≤ cpN bm (wrK (Ms ja) (nxF (Ms ja) (kk + 1))).length := cp_gem
            refine lv_goto (tgt := 31) hx hb dX1_write_109 (by decide) ?_
            refine W.widen (k := 20 + nxF (Ms ja) (kk + 1) + (cpN bm (wrK (Ms ja) (nxF (Ms ja) (kk + 1))).length - bm)) (n := 60 + 3 * nxF (Ms ja) (kk + 1) + 2 * (cpN bm (wrK (Ms ja) (nxF (Ms ja) (kk + 1))).length - bm)) (by omega) (by omega) ?_
            exact ih_3 (nxF (Ms ja) (kk + 1)) bv_16 f_16 H locs ls (by omega) hkn.2 (fun h => nx_nz (by omega) h) hOn hf_16 (hP.sub [0, 2, 3] rfl) (hD.sub [0, 2, 3] (by decide) rfl) hS (lv_sub hl [1, 2, 3] rfl)
  exact loop_3 _ (nxF (Ms ja) 0) bv_1 f_1 H locs ls (Nat.lt_succ_self _) hk0.2 (fun h => nx_nz (by decide) h) (by rw [hw0]; exact OutH.nil) hf_1 (hP.sub [2, 0, 1] rfl) (hD.sub [2, 0, 1] (by decide) rfl) hS (lv_sub hl [1, 2, 0] rfl)
