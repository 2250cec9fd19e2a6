def ofS (b : Nat) (x y : Int64) : Option MV := fitG y (vp_updL (fun _ => 0) b x)
theorem upd0_nm {b : Nat} {x : Int64} (h : x ≠ Int64.minValue) : ∀ j, j < 32 → vp_updL (fun _ => 0) b x j ≠ Int64.minValue := fun j _ => by
  by_cases e : j = b
  · subst e; rw [pk_uLs]; exact h
  · rw [pk_uLn e]; decide
theorem sca_sg {y : Int64} (hy : sm8 y) {M : MV} (sM : MSm M) : sgL (M 0 * y) = sgL y := by
  have h := (mul_b (A := 100000000) (B := 100000000) ⟨by have := sM.1; omega, sM.2.1⟩ hy (by decide)).1
  have h9 : (0 : Int64).toInt = 0 := rfl
  unfold sgL
  by_cases c : y < 0
  · have c1 := Int64.lt_iff_toInt_lt.mp c
    rw [if_pos c, if_pos]
    apply Int64.lt_iff_toInt_lt.mpr
    rw [h, h9]; rw [h9] at c1
    exact Int.mul_neg_of_pos_of_neg sM.1 c1
  · have c1 := Int64.le_iff_toInt_le.mp (Int64.not_lt.mp c)
    rw [if_neg c, if_neg]
    intro d
    have d1 := Int64.lt_iff_toInt_lt.mp d
    rw [h, h9] at d1; rw [h9] at c1
    have := Int.mul_nonneg (Int.le_of_lt sM.1) c1
    omega
theorem sca_u {y : Int64} (hy : sm8 y) (h0 : y ≠ 0) {M : MV} (sM : MSm M) : 0 < aN (M 0 * y) ∧ M 0 * y ≠ Int64.minValue := by
  have h := mul_b (A := 100000000) (B := 100000000) ⟨by have := sM.1; omega, sM.2.1⟩ hy (by decide)
  have hn : M 0 * y ≠ Int64.minValue := ne_min_of h.2 (by decide)
  refine ⟨?_, hn⟩
  have h1 := (scaU_bd hy h0 sM).1
  unfold scaU at h1
  rw [← sca_sg hy sM, uSg hn] at h1
  omega
theorem sca_nm {x : Int64} (hx : sm8 x) {M : MV} (sM : MSm M) {j : Nat} (hj : j < 32) : M (j + 1) * x ≠ Int64.minValue :=
  ne_min_of (mul_b (A := 100000000) (B := 100000000) (sM.c hj) hx (by decide)).2 (by decide)
theorem sca_g {x y : Int64} (hy : sm8 y) (h0 : y ≠ 0) {M : MV} (sM : MSm M) : fitG (M 0 * y) (fun j => M (j + 1) * x) = scaS x y M := by
  unfold fitG scaS scaU scaR; rw [sca_sg hy sM]
/-- the first k places times y -/
def mulT (M : MV) (y : Int64) (k : Nat) : Nat → Int64 := fun j => if j < k then M (j + 1) * y else M (j + 1)
theorem mulT_0 (M : MV) (y : Int64) : mulT M y 0 = fun j => M (j + 1) := by funext j; unfold mulT; rw [if_neg (by omega)]
theorem mulT_s (M : MV) (y : Int64) (k : Nat) : vp_updL (mulT M y k) k (mulT M y k k * y) = mulT M y (k + 1) := by
  funext j
  by_cases e : j = k
  · subst e; rw [pk_uLs]; unfold mulT; rw [if_neg (by omega), if_pos (by omega)]
  · rw [pk_uLn e]; unfold mulT
    by_cases h : j < k
    · rw [if_pos h, if_pos (by omega)]
    · rw [if_neg h, if_neg (by omega)]
theorem mulT_set {M : MV} {x y : Int64} {b j : Nat} (hj : j < 32) : vp_updL (mulT M y 32) b (x * M 0) j = setR b x y M j := by
  unfold setR
  by_cases e : j = b
  · subst e; rw [pk_uLs, if_pos rfl]
  · rw [pk_uLn e, if_neg e]; unfold mulT; rw [if_pos hj]
set_option maxHeartbeats 4000000 in
theorem x6_of {l : Launch} {dC : Nat → ClassId} {dI : Nat → Nat → Nat} {dA : Nat → ClassId} {s0 : State} {b0 : Addr} (Z : Z0 l dC dI dA s0 b0) (A : Nat → Prop) (sz : Nat) (hA : ∀ q : Nat, sz ≤ q → A q) {σ : Nat → Nat} (Y : SS (dC, dI) dA σ s0) (b : Nat) (x y : Int64) (hb9 : b < 32) (hxx : x ≠ Int64.minValue) (hu : 0 < aN y) (hum : y ≠ Int64.minValue) : vx_Met l yX6_of (ws_ yX6_of cX6_of 6 (some (.object "BladeAlgebra$Multi"))) ({ frames := 6, cells := 2, slots := 38, locals := 360 } : Room) (gP [.int (nI b), .long x, .long y] s0 A (fun H => H.size = sz)) (va_Qr (S := Nat × MV) (fun u => ofS b x y = some u.2) (B1r (dC, dI) A (fun u q => MA dA q u.1 u.2) (fun _ _ _ => True)) A) (vx_X (S := Unit) (fun _ => ofS b x y = none) (fun _ E _ _ => E = "BladeAlgebra$Unfit") A) 2 38 A := by
  refine vx_ofW (cc := cX6_of) (maxL := 6) (ret := (some (.object "BladeAlgebra$Multi"))) (by decide) rfl ?_
  intro p e s m args below meth c s₁ B hml hnoH hv
  obtain ⟨hav, hG, hsz⟩ := hv
  have hx := B.exec
  have hb := B.bytes
  have hr := B.returns
  have hts := atoms_spec (ws := (ws_ yX6_of cX6_of 6 (some (.object "BladeAlgebra$Multi")))) B.pre
  have hts : ∀ w ∈ lw_all, w.before _ s = true := fun w h => hts w (List.mem_cons_of_mem _ h)
  have hown : s.vm.findClass RX6 = some m.cls := findClass_of_methodNamed B.named
  have hlocks := B.notSynchronized
  have hK := hG.K Z
  subst hsz
  have hS : va_S A s.heap s.heap [] := va_S.rf
  have hP : va_P (dC, dI) vwCl [] s.heap := fun k q h => by simp at h
  have hD : va_D A [] := ⟨fun i j p q h => by simp at h, fun k q h => by simp at h⟩
  have hl := lv_entry ([.int (nI b), .long x, .long y]) (n := 6) (Nat.le_of_ble_eq_true rfl)
  rw [show entryFrame m args 6 = entryFrame m ([.int (nI b), .long x, .long y] : List Value).toArray 6 from by rw [hav], lg_entry_eq]
  generalize (lg_sl ([.int (nI b), .long x, .long y]) ++ List.replicate (6 - (lg_sl ([.int (nI b), .long x, .long y])).length) Slot.unset).toArray = ls at hl ⊢
  have hl : lv_has ls 6 [(0, .int (nI b)), (1, .long x), (3, .long y)] := hl
  generalize hQe : vx_MQ below _ _ _ s _ _ _ = Q
  change W p l e ({ frames := 6, cells := 2, slots := 38, locals := 360 } : Room) s m args below meth c s.heap [] 0 0 Q (F0 m 0 ls [])
  refine lv_bipush (v := nI 32) hx hb dX6_of_0 (by decide) ?_
  refine a_newa (D := (dC, dI)) (atype := .long) (N' := 32) (a0 := (32, .inr (.inl (fun _ => 0)))) hx hb (hts _ q542) rfl hK hP hD hS hA 1 rfl (fun _ => ra_long) (fun _ => rfl) (by decide) (by decide) (by decide) (by first | decide | omega) (by first | decide | omega) dX6_of_2 (fun na_1 H locs hP hD hS => ?_)
  have hP : va_P (dC, dI) vwCl [(na_1, .inl (dA 1, 32, .inr (.inl (fun _ => 0))))] H := hP
  have hD : va_D A [(na_1, .inl (dA 1, 32, .inr (.inl (fun _ => 0))))] := hD
  refine lv_astore (lv' := [(5, .ref na_1), (0, .int (nI b)), (1, .long x), (3, .long y)]) hx hb dX6_of_4 hl (by decide) rfl (fun ls hl => ?_)
  refine lv_aload hx hb dX6_of_6 (lv_at hl 0 rfl) ?_
  refine lv_iload_n hx hb dX6_of_8 rfl (lv_at hl 1 rfl) ?_
  refine lv_lload_n hx hb dX6_of_9 rfl (lv_at hl 2 rfl) ?_
  refine a_last hx hb hK hP hD hS 0 1 rfl rfl (by omega) (by omega) dX6_of_10 (fun H locs hP hD hS => ?_)
  have hP : va_P (dC, dI) vwCl [(na_1, .inl (dA 1, 32, .inr (.inl (vp_updL (fun _ => 0) b x))))] H := hP
  have hD : va_D A [(na_1, .inl (dA 1, 32, .inr (.inl (vp_updL (fun _ => 0) b x))))] := hD
  refine lv_aload hx hb dX6_of_11 (lv_at hl 0 rfl) ?_
  refine lv_lload_n hx hb dX6_of_13 rfl (lv_at hl 3 rfl) ?_
  have hF9 := va_free (wc := [(na_1, .inl (dA 1, 32, .inr (.inl (vp_updL (fun _ => 0) b x))))]) hD hS (fun q h => hA q h) [0] rfl
  refine x_r (wc := [(na_1, .inl (dA 1, 32, .inr (.inl (vp_updL (fun _ => 0) b x))))]) (wr := []) (vx_runS (As := [.ref na_1, .long y]) (rest := []) ⟨hx, hb, hml, hown, hts⟩ (x6_fit Z (va_A [(na_1, .inl (dA 1, 32, .inr (.inl (vp_updL (fun _ => 0) b x))))] H.size) H.size (fun q h => Or.inr h) Y na_1 y (vp_updL (fun _ => 0) b x) hu hum (upd0_nm hxx)) (va_cwS 2 hts (lw_S q510 q511 q102 q512) rfl rfl rfl (by decide +kernel) ⟨Nat.le_of_ble_eq_true rfl, Nat.le_of_ble_eq_true rfl⟩) (gP_S hG hS (fun q _ h => hF9 q h) ⟨rfl, (hP.sub (ws' := [(na_1, .inl (dA 1, 32, .inr (.inl (vp_updL (fun _ => 0) b x))))]) [0] rfl), (hD.sub (ws' := [(na_1, .inl (dA 1, 32, .inr (.inl (vp_updL (fun _ => 0) b x))))]) [0] (by decide) rfl).self⟩) rfl rfl hl.1 rfl (lv_room (Nat.le_of_ble_eq_true rfl)) dX6_of_14 ⟨by first | decide | omega, by first | decide | omega⟩) hP hD hS hA [0] [] rfl rfl (by decide) (by decide) (fun E ce q9 u9 t9 H locs ht9 hp9 hb9 hz hP hS h1 h2 h3 => ?_) (fun u9 ra9 H locs hq hX hz hk hP hD hS => ?_)
  · have hD := hD.sub (ws' := []) [] (by decide) rfl
    have hP : va_P (dC, dI) vwCl [] H := hP
    have hD : va_D A [] := hD
    subst hb9
    subst hQe
    exact vx_out (fun x h => (hnoH x h).elim) hlocks h1 h2 h3 (fun t10 e10 _ => ⟨(), hp9, rfl, hS.F e10⟩) hS.2.2 (by first | decide | omega) (by first | decide | omega)
  obtain ⟨ra_2, rfl⟩ : ∃ z, z = ra9 := ⟨_, rfl⟩
  have e_2 := hq
  obtain ⟨M_2, rfl⟩ : ∃ z, z = u9 := ⟨_, rfl⟩
  have sm_2 : MSm M_2 := fitG_sm hu hum e_2
  have hP : va_P (dC, dI) vwCl [(ra_2, .inr (0, [.ref na_1, .long (M_2 0)])), (na_1, .inl (dA 1, 32, .inr (.inl (fun j => M_2 (j + 1)))))] H := hP
  have hD : va_D A [(ra_2, .inr (0, [.ref na_1, .long (M_2 0)])), (na_1, .inl (dA 1, 32, .inr (.inl (fun j => M_2 (j + 1)))))] := hD
  subst hQe
  refine vx_ret ?_
  refine W.widen (k := 2) (n := 38) (by first | decide | omega) (by first | decide | omega) ?_
  exact W.aret (v := .ref ra_2) hx hb hr (Or.inl ⟨_, rfl⟩) (Or.inr ⟨_, rfl⟩) (fun tz ht hW => ⟨⟨(na_1, M_2), ra_2, rfl, e_2, B1r_at ht (hP.sub [0, 1] rfl) (hD.sub [0, 1] (by decide) rfl) trivial⟩, hS.F ht⟩) hS.2.2 dX6_of_17
set_option maxHeartbeats 4000000 in
theorem x6_plus {l : Launch} {dC : Nat → ClassId} {dI : Nat → Nat → Nat} {dA : Nat → ClassId} {s0 : State} {b0 : Addr} (Z : Z0 l dC dI dA s0 b0) (A : Nat → Prop) (sz : Nat) (hA : ∀ q : Nat, sz ≤ q → A q) {σ : Nat → Nat} (Y : SS (dC, dI) dA σ s0) (ma mr : Nat) (M : MV) (mb nr : Nat) (N : MV) (s9 : Int32) (hs9 : Sg s9) (sM : MSm M) (sN : MSm N) : vx_Met l yX6_plus (ws_ yX6_plus cX6_plus 5 (some (.object "BladeAlgebra$Multi"))) ({ frames := 6, cells := 2, slots := 38, locals := 360 } : Room) (gP [.ref ma, .ref mb, .int s9] s0 A (fun H => H.size = sz ∧ RO A (dC, dI) [(ma, .inr (0, [.ref mr, .long (M 0)])), (mr, .inl (dA 1, 32, .inr (.inl (fun j => M (j + 1)))))] H ∧ RO A (dC, dI) [(mb, .inr (0, [.ref nr, .long (N 0)])), (nr, .inl (dA 1, 32, .inr (.inl (fun j => N (j + 1)))))] H)) (va_Qr (S := Nat × MV) (fun u => addS s9 M N = some u.2) (B1r (dC, dI) A (fun u q => MA dA q u.1 u.2) (fun _ _ _ => True)) A) (vx_X (S := Unit) (fun _ => addS s9 M N = none) (fun _ E _ _ => E = "BladeAlgebra$Unfit") A) 2 38 A := by
  refine vx_ofW (cc := cX6_plus) (maxL := 5) (ret := (some (.object "BladeAlgebra$Multi"))) (by decide) rfl ?_
  intro p e s m args below meth c s₁ B hml hnoH hv
  obtain ⟨hav, hG, hsz, hR0, hR1⟩ := hv
  have hx := B.exec
  have hb := B.bytes
  have hr := B.returns
  have hts := atoms_spec (ws := (ws_ yX6_plus cX6_plus 5 (some (.object "BladeAlgebra$Multi")))) B.pre
  have hts : ∀ w ∈ lw_all, w.before _ s = true := fun w h => hts w (List.mem_cons_of_mem _ h)
  have hown : s.vm.findClass RX6 = some m.cls := findClass_of_methodNamed B.named
  have hlocks := B.notSynchronized
  have hK := hG.K Z
  subst hsz
  have hS : va_S A s.heap s.heap [] := va_S.rf
  have hP : va_P (dC, dI) vwCl [] s.heap := fun k q h => by simp at h
  have hD : va_D A [] := ⟨fun i j p q h => by simp at h, fun k q h => by simp at h⟩
  have hl := lv_entry ([.ref ma, .ref mb, .int s9]) (n := 5) (Nat.le_of_ble_eq_true rfl)
  rw [show entryFrame m args 5 = entryFrame m ([.ref ma, .ref mb, .int s9] : List Value).toArray 5 from by rw [hav], lg_entry_eq]
  generalize (lg_sl ([.ref ma, .ref mb, .int s9]) ++ List.replicate (5 - (lg_sl ([.ref ma, .ref mb, .int s9])).length) Slot.unset).toArray = ls at hl ⊢
  have hl : lv_has ls 5 [(0, .ref ma), (1, .ref mb), (2, .int s9)] := hl
  generalize hQe : vx_MQ below _ _ _ s _ _ _ = Q
  change W p l e ({ frames := 6, cells := 2, slots := 38, locals := 360 } : Room) s m args below meth c s.heap [] 0 0 Q (F0 m 0 ls [])
  refine lv_bipush (v := nI 32) hx hb dX6_plus_0 (by decide) ?_
  refine a_newa (D := (dC, dI)) (atype := .long) (N' := 32) (a0 := (32, .inr (.inl (fun _ => 0)))) hx hb (hts _ q542) rfl hK hP hD hS hA 1 rfl (fun _ => ra_long) (fun _ => rfl) (by decide) (by decide) (by decide) (by first | decide | omega) (by first | decide | omega) dX6_plus_2 (fun na_1 H locs hP hD hS => ?_)
  have hP : va_P (dC, dI) vwCl [(na_1, .inl (dA 1, 32, .inr (.inl (fun _ => 0))))] H := hP
  have hD : va_D A [(na_1, .inl (dA 1, 32, .inr (.inl (fun _ => 0))))] := hD
  refine lv_astore_n (lv' := [(3, .ref na_1), (0, .ref ma), (1, .ref mb), (2, .int s9)]) hx hb dX6_plus_4 rfl hl (by decide) rfl (fun ls hl => ?_)
  refine lv_iconst (v := nI 0) hx hb dX6_plus_5 (by decide) ?_
  refine lv_istore (lv' := [(4, .int (nI 0)), (3, .ref na_1), (0, .ref ma), (1, .ref mb), (2, .int s9)]) hx hb dX6_plus_6 hl (by decide) rfl (fun ls hl => ?_)
  have e9 : (fun _ => 0 : Nat → Int64) = (tabS (addR s9 M N) 0) := (tabS_0 _).symm
  rw [e9] at hP hD; clear e9
  have loop_2 : ∀ (n9_2 : Nat) (k : Nat) (H : Heap) (locs : List Loc) (ls : Array Slot), 32 - k < n9_2 → (k ≤ 32) → va_P (dC, dI) vwCl [(na_1, .inl (dA 1, 32, .inr (.inl (tabS (addR s9 M N) k))))] H → va_D A [(na_1, .inl (dA 1, 32, .inr (.inl (tabS (addR s9 M N) k))))] → va_S A s.heap H locs → lv_has ls 5 [(0, .ref ma), (1, .ref mb), (2, .int s9), (3, .ref na_1), (4, .int (nI k))] → W p l e ({ frames := 6, cells := 2, slots := 38, locals := 360 } : Room) s m args below meth c H locs (0 + 1) (0 + 32) Q (F0 m 8 ls []) := by
    intro n9_2
    induction n9_2 with
    | zero => intro k H locs ls hm_2; exact absurd hm_2 (Nat.not_lt_zero _)
    | succ n9_2 ih_2 =>
      intro k H locs ls hm_2 hk9 hP hD hS hl
      refine lv_iload hx hb dX6_plus_8 (lv_at hl 4 rfl) ?_
      refine lv_bipush (v := nI 32) hx hb dX6_plus_10 (by decide) ?_
      refine lv_icmp_ge (tgt := 53) hx hb dX6_plus_12 (by decide) (fun c_12 => ?_) (fun c_12 => ?_)
      · have c_12 : 32 ≤ k := (nI_leI (a := 32) (b := k) (by omega) (by omega)).mp c_12
        obtain rfl : k = 32 := by omega
        have hP := P_L hP 0 (addR s9 M N) rfl (fun j hj => tabS_at hj)
        have hD := va_D.set (e := .inl (dA 1, 32, .inr (.inl (addR s9 M N)))) hD (p := 0) rfl
        have hP : va_P (dC, dI) vwCl [(na_1, .inl (dA 1, 32, .inr (.inl (addR s9 M N))))] H := hP
        have hD : va_D A [(na_1, .inl (dA 1, 32, .inr (.inl (addR s9 M N))))] := hD
        refine lv_aload_n hx hb dX6_plus_53 rfl (lv_at hl 3 rfl) ?_
        refine lv_aload_n hx hb dX6_plus_54 rfl (lv_at hl 0 rfl) ?_
        refine va_get (D := (dC, dI)) (ci := 0) (v := .long (M 0)) (C := RX6) (T := TX6) (N := 2) hx hb hts in_X6 hown hK (hR0.up hS) 0 rfl rfl 1 (by decide) (hts _ q553) (fun _ h9 => h9) rfl dX6_plus_55 ?_
        refine lv_aload_n hx hb dX6_plus_58 rfl (lv_at hl 1 rfl) ?_
        refine va_get (D := (dC, dI)) (ci := 0) (v := .long (N 0)) (C := RX6) (T := TX6) (N := 2) hx hb hts in_X6 hown hK (hR1.up hS) 0 rfl rfl 1 (by decide) (hts _ q553) (fun _ h9 => h9) rfl dX6_plus_59 ?_
        refine lv_lmul hx hb dX6_plus_62 ?_
        have hF9 := va_free (wc := [(na_1, .inl (dA 1, 32, .inr (.inl (addR s9 M N))))]) hD hS (fun q h => hA q h) [0] rfl
        refine x_r (wc := [(na_1, .inl (dA 1, 32, .inr (.inl (addR s9 M N))))]) (wr := []) (vx_runS (As := [.ref na_1, .long ((M 0) * (N 0))]) (rest := []) ⟨hx, hb, hml, hown, hts⟩ (x6_fit Z (va_A [(na_1, .inl (dA 1, 32, .inr (.inl (addR s9 M N))))] H.size) H.size (fun q h => Or.inr h) Y na_1 ((M 0) * (N 0)) (addR s9 M N) (aN_pos (und_bd sM sN).1) (nm_p (und_bd sM sN).1) (fun j hj => addR_nm hs9 sM sN hj)) (va_cwS 2 hts (lw_S q510 q511 q102 q512) rfl rfl rfl (by decide +kernel) ⟨Nat.le_of_ble_eq_true rfl, Nat.le_of_ble_eq_true rfl⟩) (gP_S hG hS (fun q _ h => hF9 q h) ⟨rfl, (hP.sub (ws' := [(na_1, .inl (dA 1, 32, .inr (.inl (addR s9 M N))))]) [0] rfl), (hD.sub (ws' := [(na_1, .inl (dA 1, 32, .inr (.inl (addR s9 M N))))]) [0] (by decide) rfl).self⟩) rfl rfl hl.1 rfl (lv_room (Nat.le_of_ble_eq_true rfl)) dX6_plus_63 ⟨by first | decide | omega, by first | decide | omega⟩) hP hD hS hA [0] [] rfl rfl (by decide) (by decide) (fun E ce q9 u9 t9 H locs ht9 hp9 hb9 hz hP hS h1 h2 h3 => ?_) (fun u9 ra9 H locs hq hX hz hk hP hD hS => ?_)
        · have hD := hD.sub (ws' := []) [] (by decide) rfl
          have hP : va_P (dC, dI) vwCl [] H := hP
          have hD : va_D A [] := hD
          subst hb9
          subst hQe
          exact vx_out (fun x h => (hnoH x h).elim) hlocks h1 h2 h3 (fun t10 e10 _ => ⟨(), ((fitG_pos (und_bd sM sN).1).symm.trans hp9), rfl, hS.F e10⟩) hS.2.2 (by first | decide | omega) (by first | decide | omega)
        obtain ⟨ra_3, rfl⟩ : ∃ z, z = ra9 := ⟨_, rfl⟩
        have e_3 := hq
        obtain ⟨M_3, rfl⟩ : ∃ z, z = u9 := ⟨_, rfl⟩
        have sm_3 : MSm M_3 := fitG_sm (aN_pos (und_bd sM sN).1) (nm_p (und_bd sM sN).1) e_3
        have hP : va_P (dC, dI) vwCl [(ra_3, .inr (0, [.ref na_1, .long (M_3 0)])), (na_1, .inl (dA 1, 32, .inr (.inl (fun j => M_3 (j + 1)))))] H := hP
        have hD : va_D A [(ra_3, .inr (0, [.ref na_1, .long (M_3 0)])), (na_1, .inl (dA 1, 32, .inr (.inl (fun j => M_3 (j + 1)))))] := hD
        subst hQe
        refine vx_ret ?_
        refine W.widen (k := 2) (n := 38) (by first | decide | omega) (by first | decide | omega) ?_
        exact W.aret (v := .ref ra_3) hx hb hr (Or.inl ⟨_, rfl⟩) (Or.inr ⟨_, rfl⟩) (fun tz ht hW => ⟨⟨(na_1, M_3), ra_3, rfl, ((fitG_pos (und_bd sM sN).1).symm.trans e_3), B1r_at ht (hP.sub [0, 1] rfl) (hD.sub [0, 1] (by decide) rfl) trivial⟩, hS.F ht⟩) hS.2.2 dX6_plus_66
      · have c_12 : ¬ 32 ≤ k := fun h => c_12 ((nI_leI (a := 32) (b := k) (by omega) (by omega)).mpr h)
        refine lv_aload_n hx hb dX6_plus_15 rfl (lv_at hl 3 rfl) ?_
        refine lv_iload hx hb dX6_plus_16 (lv_at hl 4 rfl) ?_
        refine lv_aload_n hx hb dX6_plus_18 rfl (lv_at hl 0 rfl) ?_
        refine va_get (D := (dC, dI)) (ci := 0) (v := .ref mr) (C := RX6) (T := TX6) (N := 2) hx hb hts in_X6 hown hK (hR0.up hS) 0 rfl rfl 0 (by decide) (hts _ q549) (fun _ h9 => h9) rfl dX6_plus_19 ?_
        refine lv_iload hx hb dX6_plus_22 (lv_at hl 4 rfl) ?_
        refine a_lald hx hb hK (hR0.up hS) 1 1 rfl rfl (by omega) (by omega) dX6_plus_24 ?_
        refine lv_aload_n hx hb dX6_plus_25 rfl (lv_at hl 1 rfl) ?_
        refine va_get (D := (dC, dI)) (ci := 0) (v := .long (N 0)) (C := RX6) (T := TX6) (N := 2) hx hb hts in_X6 hown hK (hR1.up hS) 0 rfl rfl 1 (by decide) (hts _ q553) (fun _ h9 => h9) rfl dX6_plus_26 ?_
        refine lv_lmul hx hb dX6_plus_29 ?_
        refine lv_iload_n hx hb dX6_plus_30 rfl (lv_at hl 2 rfl) ?_
        refine lv_i2l (v := s9.toInt64) hx hb dX6_plus_31 rfl ?_
        refine lv_aload_n hx hb dX6_plus_32 rfl (lv_at hl 1 rfl) ?_
        refine va_get (D := (dC, dI)) (ci := 0) (v := .ref nr) (C := RX6) (T := TX6) (N := 2) hx hb hts in_X6 hown hK (hR1.up hS) 0 rfl rfl 0 (by decide) (hts _ q549) (fun _ h9 => h9) rfl dX6_plus_33 ?_
        refine lv_iload hx hb dX6_plus_36 (lv_at hl 4 rfl) ?_
        refine a_lald hx hb hK (hR1.up hS) 1 1 rfl rfl (by omega) (by omega) dX6_plus_38 ?_
        refine lv_lmul hx hb dX6_plus_39 ?_
        refine lv_aload_n hx hb dX6_plus_40 rfl (lv_at hl 0 rfl) ?_
        refine va_get (D := (dC, dI)) (ci := 0) (v := .long (M 0)) (C := RX6) (T := TX6) (N := 2) hx hb hts in_X6 hown hK (hR0.up hS) 0 rfl rfl 1 (by decide) (hts _ q553) (fun _ h9 => h9) rfl dX6_plus_41 ?_
        refine lv_lmul hx hb dX6_plus_44 ?_
        refine lv_ladd hx hb dX6_plus_45 ?_
        refine e_l (y := addR s9 M N k) (rfl) ?_
        refine a_last hx hb hK hP hD hS 0 1 rfl rfl (by omega) (by omega) dX6_plus_46 (fun H locs hP hD hS => ?_)
        have hP : va_P (dC, dI) vwCl [(na_1, .inl (dA 1, 32, .inr (.inl (vp_updL (tabS (addR s9 M N) k) k (addR s9 M N k)))))] H := hP
        have hD : va_D A [(na_1, .inl (dA 1, 32, .inr (.inl (vp_updL (tabS (addR s9 M N) k) k (addR s9 M N k)))))] := hD
        have e9 : (vp_updL (tabS (addR s9 M N) k) k (addR s9 M N k) : Nat → Int64) = (tabS (addR s9 M N) (k + 1)) := tabS_s _ _
        rw [e9] at hP hD; clear e9
        refine lv_iinc (v := nI (k + 1)) (lv' := [(4, .int (nI (k + 1))), (0, .ref ma), (1, .ref mb), (2, .int s9), (3, .ref na_1)]) hx hb dX6_plus_47 hl (k := 4) rfl (by exact nI_add _ 1) (by decide) rfl (fun ls hl => ?_)
        refine lv_goto (tgt := 8) hx hb dX6_plus_50 (by decide) ?_
        exact ih_2 (k + 1) H locs ls (by omega) (by omega) (hP.sub [0] rfl) (hD.sub [0] (by decide) rfl) hS (lv_sub hl [1, 2, 3, 4, 0] rfl)
  exact loop_2 _ 0 H locs ls (Nat.lt_succ_self _) (by omega) hP hD hS (lv_sub hl [2, 3, 4, 1, 0] rfl)
set_option maxHeartbeats 4000000 in
theorem x6_times {l : Launch} {dC : Nat → ClassId} {dI : Nat → Nat → Nat} {dA : Nat → ClassId} {s0 : State} {b0 : Addr} (Z : Z0 l dC dI dA s0 b0) (A : Nat → Prop) (sz : Nat) (hA : ∀ q : Nat, sz ≤ q → A q) {σ : Nat → Nat} (Y : SS (dC, dI) dA σ s0) (ma mr : Nat) (M : MV) (x y : Int64) (hxx : sm8 x) (hy : sm8 y) (h0 : y ≠ 0) (sM : MSm M) : vx_Met l yX6_times (ws_ yX6_times cX6_times 7 (some (.object "BladeAlgebra$Multi"))) ({ frames := 6, cells := 2, slots := 38, locals := 360 } : Room) (gP [.ref ma, .long x, .long y] s0 A (fun H => H.size = sz ∧ RO A (dC, dI) [(ma, .inr (0, [.ref mr, .long (M 0)])), (mr, .inl (dA 1, 32, .inr (.inl (fun j => M (j + 1)))))] H)) (va_Qr (S := Nat × MV) (fun u => scaS x y M = some u.2) (B1r (dC, dI) A (fun u q => MA dA q u.1 u.2) (fun _ _ _ => True)) A) (vx_X (S := Unit) (fun _ => scaS x y M = none) (fun _ E _ _ => E = "BladeAlgebra$Unfit") A) 2 38 A := by
  refine vx_ofW (cc := cX6_times) (maxL := 7) (ret := (some (.object "BladeAlgebra$Multi"))) (by decide) rfl ?_
  intro p e s m args below meth c s₁ B hml hnoH hv
  obtain ⟨hav, hG, hsz, hR0⟩ := hv
  have hx := B.exec
  have hb := B.bytes
  have hr := B.returns
  have hts := atoms_spec (ws := (ws_ yX6_times cX6_times 7 (some (.object "BladeAlgebra$Multi")))) B.pre
  have hts : ∀ w ∈ lw_all, w.before _ s = true := fun w h => hts w (List.mem_cons_of_mem _ h)
  have hown : s.vm.findClass RX6 = some m.cls := findClass_of_methodNamed B.named
  have hlocks := B.notSynchronized
  have hK := hG.K Z
  subst hsz
  have hS : va_S A s.heap s.heap [] := va_S.rf
  have hP : va_P (dC, dI) vwCl [] s.heap := fun k q h => by simp at h
  have hD : va_D A [] := ⟨fun i j p q h => by simp at h, fun k q h => by simp at h⟩
  have hl := lv_entry ([.ref ma, .long x, .long y]) (n := 7) (Nat.le_of_ble_eq_true rfl)
  rw [show entryFrame m args 7 = entryFrame m ([.ref ma, .long x, .long y] : List Value).toArray 7 from by rw [hav], lg_entry_eq]
  generalize (lg_sl ([.ref ma, .long x, .long y]) ++ List.replicate (7 - (lg_sl ([.ref ma, .long x, .long y])).length) Slot.unset).toArray = ls at hl ⊢
  have hl : lv_has ls 7 [(0, .ref ma), (1, .long x), (3, .long y)] := hl
  generalize hQe : vx_MQ below _ _ _ s _ _ _ = Q
  change W p l e ({ frames := 6, cells := 2, slots := 38, locals := 360 } : Room) s m args below meth c s.heap [] 0 0 Q (F0 m 0 ls [])
  refine lv_bipush (v := nI 32) hx hb dX6_times_0 (by decide) ?_
  refine a_newa (D := (dC, dI)) (atype := .long) (N' := 32) (a0 := (32, .inr (.inl (fun _ => 0)))) hx hb (hts _ q542) rfl hK hP hD hS hA 1 rfl (fun _ => ra_long) (fun _ => rfl) (by decide) (by decide) (by decide) (by first | decide | omega) (by first | decide | omega) dX6_times_2 (fun na_1 H locs hP hD hS => ?_)
  have hP : va_P (dC, dI) vwCl [(na_1, .inl (dA 1, 32, .inr (.inl (fun _ => 0))))] H := hP
  have hD : va_D A [(na_1, .inl (dA 1, 32, .inr (.inl (fun _ => 0))))] := hD
  refine lv_astore (lv' := [(5, .ref na_1), (0, .ref ma), (1, .long x), (3, .long y)]) hx hb dX6_times_4 hl (by decide) rfl (fun ls hl => ?_)
  refine lv_iconst (v := nI 0) hx hb dX6_times_6 (by decide) ?_
  refine lv_istore (lv' := [(6, .int (nI 0)), (5, .ref na_1), (0, .ref ma), (1, .long x), (3, .long y)]) hx hb dX6_times_7 hl (by decide) rfl (fun ls hl => ?_)
  have e9 : (fun _ => 0 : Nat → Int64) = (tabS (fun j => M (j + 1) * x) 0) := (tabS_0 _).symm
  rw [e9] at hP hD; clear e9
  have loop_2 : ∀ (n9_2 : Nat) (k : Nat) (H : Heap) (locs : List Loc) (ls : Array Slot), 32 - k < n9_2 → (k ≤ 32) → va_P (dC, dI) vwCl [(na_1, .inl (dA 1, 32, .inr (.inl (tabS (fun j => M (j + 1) * x) k))))] H → va_D A [(na_1, .inl (dA 1, 32, .inr (.inl (tabS (fun j => M (j + 1) * x) k))))] → va_S A s.heap H locs → lv_has ls 7 [(0, .ref ma), (1, .long x), (3, .long y), (5, .ref na_1), (6, .int (nI k))] → W p l e ({ frames := 6, cells := 2, slots := 38, locals := 360 } : Room) s m args below meth c H locs (0 + 1) (0 + 32) Q (F0 m 9 ls []) := by
    intro n9_2
    induction n9_2 with
    | zero => intro k H locs ls hm_2; exact absurd hm_2 (Nat.not_lt_zero _)
    | succ n9_2 ih_2 =>
      intro k H locs ls hm_2 hk9 hP hD hS hl
      refine lv_iload hx hb dX6_times_9 (lv_at hl 4 rfl) ?_
      refine lv_bipush (v := nI 32) hx hb dX6_times_11 (by decide) ?_
      refine lv_icmp_ge (tgt := 36) hx hb dX6_times_13 (by decide) (fun c_13 => ?_) (fun c_13 => ?_)
      · have c_13 : 32 ≤ k := (nI_leI (a := 32) (b := k) (by omega) (by omega)).mp c_13
        obtain rfl : k = 32 := by omega
        have hP := P_L hP 0 (fun j => M (j + 1) * x) rfl (fun j hj => tabS_at hj)
        have hD := va_D.set (e := .inl (dA 1, 32, .inr (.inl (fun j => M (j + 1) * x)))) hD (p := 0) rfl
        have hP : va_P (dC, dI) vwCl [(na_1, .inl (dA 1, 32, .inr (.inl (fun j => M (j + 1) * x))))] H := hP
        have hD : va_D A [(na_1, .inl (dA 1, 32, .inr (.inl (fun j => M (j + 1) * x))))] := hD
        refine lv_aload hx hb dX6_times_36 (lv_at hl 3 rfl) ?_
        refine lv_aload_n hx hb dX6_times_38 rfl (lv_at hl 0 rfl) ?_
        refine va_get (D := (dC, dI)) (ci := 0) (v := .long (M 0)) (C := RX6) (T := TX6) (N := 2) hx hb hts in_X6 hown hK (hR0.up hS) 0 rfl rfl 1 (by decide) (hts _ q553) (fun _ h9 => h9) rfl dX6_times_39 ?_
        refine lv_lload_n hx hb dX6_times_42 rfl (lv_at hl 2 rfl) ?_
        refine lv_lmul hx hb dX6_times_43 ?_
        have hF9 := va_free (wc := [(na_1, .inl (dA 1, 32, .inr (.inl (fun j => M (j + 1) * x))))]) hD hS (fun q h => hA q h) [0] rfl
        refine x_r (wc := [(na_1, .inl (dA 1, 32, .inr (.inl (fun j => M (j + 1) * x))))]) (wr := []) (vx_runS (As := [.ref na_1, .long ((M 0) * y)]) (rest := []) ⟨hx, hb, hml, hown, hts⟩ (x6_fit Z (va_A [(na_1, .inl (dA 1, 32, .inr (.inl (fun j => M (j + 1) * x))))] H.size) H.size (fun q h => Or.inr h) Y na_1 ((M 0) * y) (fun j => M (j + 1) * x) (sca_u hy h0 sM).1 (sca_u hy h0 sM).2 (fun j hj => sca_nm hxx sM hj)) (va_cwS 2 hts (lw_S q510 q511 q102 q512) rfl rfl rfl (by decide +kernel) ⟨Nat.le_of_ble_eq_true rfl, Nat.le_of_ble_eq_true rfl⟩) (gP_S hG hS (fun q _ h => hF9 q h) ⟨rfl, (hP.sub (ws' := [(na_1, .inl (dA 1, 32, .inr (.inl (fun j => M (j + 1) * x))))]) [0] rfl), (hD.sub (ws' := [(na_1, .inl (dA 1, 32, .inr (.inl (fun j => M (j + 1) * x))))]) [0] (by decide) rfl).self⟩) rfl rfl hl.1 rfl (lv_room (Nat.le_of_ble_eq_true rfl)) dX6_times_44 ⟨by first | decide | omega, by first | decide | omega⟩) hP hD hS hA [0] [] rfl rfl (by decide) (by decide) (fun E ce q9 u9 t9 H locs ht9 hp9 hb9 hz hP hS h1 h2 h3 => ?_) (fun u9 ra9 H locs hq hX hz hk hP hD hS => ?_)
        · have hD := hD.sub (ws' := []) [] (by decide) rfl
          have hP : va_P (dC, dI) vwCl [] H := hP
          have hD : va_D A [] := hD
          subst hb9
          subst hQe
          exact vx_out (fun x h => (hnoH x h).elim) hlocks h1 h2 h3 (fun t10 e10 _ => ⟨(), ((sca_g hy h0 sM).symm.trans hp9), rfl, hS.F e10⟩) hS.2.2 (by first | decide | omega) (by first | decide | omega)
        obtain ⟨ra_3, rfl⟩ : ∃ z, z = ra9 := ⟨_, rfl⟩
        have e_3 := hq
        obtain ⟨M_3, rfl⟩ : ∃ z, z = u9 := ⟨_, rfl⟩
        have sm_3 : MSm M_3 := fitG_sm (sca_u hy h0 sM).1 (sca_u hy h0 sM).2 e_3
        have hP : va_P (dC, dI) vwCl [(ra_3, .inr (0, [.ref na_1, .long (M_3 0)])), (na_1, .inl (dA 1, 32, .inr (.inl (fun j => M_3 (j + 1)))))] H := hP
        have hD : va_D A [(ra_3, .inr (0, [.ref na_1, .long (M_3 0)])), (na_1, .inl (dA 1, 32, .inr (.inl (fun j => M_3 (j + 1)))))] := hD
        subst hQe
        refine vx_ret ?_
        refine W.widen (k := 2) (n := 38) (by first | decide | omega) (by first | decide | omega) ?_
        exact W.aret (v := .ref ra_3) hx hb hr (Or.inl ⟨_, rfl⟩) (Or.inr ⟨_, rfl⟩) (fun tz ht hW => ⟨⟨(na_1, M_3), ra_3, rfl, ((sca_g hy h0 sM).symm.trans e_3), B1r_at ht (hP.sub [0, 1] rfl) (hD.sub [0, 1] (by decide) rfl) trivial⟩, hS.F ht⟩) hS.2.2 dX6_times_47
      · have c_13 : ¬ 32 ≤ k := fun h => c_13 ((nI_leI (a := 32) (b := k) (by omega) (by omega)).mpr h)
        refine lv_aload hx hb dX6_times_16 (lv_at hl 3 rfl) ?_
        refine lv_iload hx hb dX6_times_18 (lv_at hl 4 rfl) ?_
        refine lv_aload_n hx hb dX6_times_20 rfl (lv_at hl 0 rfl) ?_
        refine va_get (D := (dC, dI)) (ci := 0) (v := .ref mr) (C := RX6) (T := TX6) (N := 2) hx hb hts in_X6 hown hK (hR0.up hS) 0 rfl rfl 0 (by decide) (hts _ q549) (fun _ h9 => h9) rfl dX6_times_21 ?_
        refine lv_iload hx hb dX6_times_24 (lv_at hl 4 rfl) ?_
        refine a_lald hx hb hK (hR0.up hS) 1 1 rfl rfl (by omega) (by omega) dX6_times_26 ?_
        refine lv_lload_n hx hb dX6_times_27 rfl (lv_at hl 1 rfl) ?_
        refine lv_lmul hx hb dX6_times_28 ?_
        refine a_last hx hb hK hP hD hS 0 1 rfl rfl (by omega) (by omega) dX6_times_29 (fun H locs hP hD hS => ?_)
        have hP : va_P (dC, dI) vwCl [(na_1, .inl (dA 1, 32, .inr (.inl (vp_updL (tabS (fun j => M (j + 1) * x) k) k (((fun j => M (j + 1)) k) * x)))))] H := hP
        have hD : va_D A [(na_1, .inl (dA 1, 32, .inr (.inl (vp_updL (tabS (fun j => M (j + 1) * x) k) k (((fun j => M (j + 1)) k) * x)))))] := hD
        have e9 : (vp_updL (tabS (fun j => M (j + 1) * x) k) k (((fun j => M (j + 1)) k) * x) : Nat → Int64) = (tabS (fun j => M (j + 1) * x) (k + 1)) := tabS_s _ _
        rw [e9] at hP hD; clear e9
        refine lv_iinc (v := nI (k + 1)) (lv' := [(6, .int (nI (k + 1))), (0, .ref ma), (1, .long x), (3, .long y), (5, .ref na_1)]) hx hb dX6_times_30 hl (k := 4) rfl (by exact nI_add _ 1) (by decide) rfl (fun ls hl => ?_)
        refine lv_goto (tgt := 9) hx hb dX6_times_33 (by decide) ?_
        exact ih_2 (k + 1) H locs ls (by omega) (by omega) (hP.sub [0] rfl) (hD.sub [0] (by decide) rfl) hS (lv_sub hl [1, 2, 3, 4, 0] rfl)
  exact loop_2 _ 0 H locs ls (Nat.lt_succ_self _) (by omega) hP hD hS (lv_sub hl [2, 3, 4, 1, 0] rfl)
set_option maxHeartbeats 4000000 in
theorem x6_with {l : Launch} {dC : Nat → ClassId} {dI : Nat → Nat → Nat} {dA : Nat → ClassId} {s0 : State} {b0 : Addr} (Z : Z0 l dC dI dA s0 b0) (A : Nat → Prop) (sz : Nat) (hA : ∀ q : Nat, sz ≤ q → A q) {σ : Nat → Nat} (Y : SS (dC, dI) dA σ s0) (ma mr : Nat) (M : MV) (b : Nat) (x y : Int64) (hb9 : b < 32) (hxx : sm8 x) (hy : sm8 y) (hu : 0 < (M 0 * y).toInt) (sM : MSm M) : vx_Met l yX6_with (ws_ yX6_with cX6_with 8 (some (.object "BladeAlgebra$Multi"))) ({ frames := 6, cells := 2, slots := 38, locals := 360 } : Room) (gP [.ref ma, .int (nI b), .long x, .long y] s0 A (fun H => H.size = sz ∧ RO A (dC, dI) [(ma, .inr (0, [.ref mr, .long (M 0)])), (mr, .inl (dA 1, 32, .inr (.inl (fun j => M (j + 1)))))] H)) (va_Qr (S := Nat × MV) (fun u => fitS (M 0 * y) (setR b x y M) = some u.2) (B1r (dC, dI) A (fun u q => MA dA q u.1 u.2) (fun _ _ _ => True)) A) (vx_X (S := Unit) (fun _ => fitS (M 0 * y) (setR b x y M) = none) (fun _ E _ _ => E = "BladeAlgebra$Unfit") A) 2 38 A := by
  refine vx_ofW (cc := cX6_with) (maxL := 8) (ret := (some (.object "BladeAlgebra$Multi"))) (by decide) rfl ?_
  intro p e s m args below meth c s₁ B hml hnoH hv
  obtain ⟨hav, hG, hsz, hR0⟩ := hv
  have hx := B.exec
  have hb := B.bytes
  have hr := B.returns
  have hts := atoms_spec (ws := (ws_ yX6_with cX6_with 8 (some (.object "BladeAlgebra$Multi")))) B.pre
  have hts : ∀ w ∈ lw_all, w.before _ s = true := fun w h => hts w (List.mem_cons_of_mem _ h)
  have hown : s.vm.findClass RX6 = some m.cls := findClass_of_methodNamed B.named
  have hlocks := B.notSynchronized
  have hK := hG.K Z
  subst hsz
  have hS : va_S A s.heap s.heap [] := va_S.rf
  have hP : va_P (dC, dI) vwCl [] s.heap := fun k q h => by simp at h
  have hD : va_D A [] := ⟨fun i j p q h => by simp at h, fun k q h => by simp at h⟩
  have hl := lv_entry ([.ref ma, .int (nI b), .long x, .long y]) (n := 8) (Nat.le_of_ble_eq_true rfl)
  rw [show entryFrame m args 8 = entryFrame m ([.ref ma, .int (nI b), .long x, .long y] : List Value).toArray 8 from by rw [hav], lg_entry_eq]
  generalize (lg_sl ([.ref ma, .int (nI b), .long x, .long y]) ++ List.replicate (8 - (lg_sl ([.ref ma, .int (nI b), .long x, .long y])).length) Slot.unset).toArray = ls at hl ⊢
  have hl : lv_has ls 8 [(0, .ref ma), (1, .int (nI b)), (2, .long x), (4, .long y)] := hl
  generalize hQe : vx_MQ below _ _ _ s _ _ _ = Q
  change W p l e ({ frames := 6, cells := 2, slots := 38, locals := 360 } : Room) s m args below meth c s.heap [] 0 0 Q (F0 m 0 ls [])
  refine lv_aload_n hx hb dX6_with_0 rfl (lv_at hl 0 rfl) ?_
  refine va_get (D := (dC, dI)) (ci := 0) (v := .ref mr) (C := RX6) (T := TX6) (N := 2) hx hb hts in_X6 hown hK (hR0.up hS) 0 rfl rfl 0 (by decide) (hts _ q549) (fun _ h9 => h9) rfl dX6_with_1 ?_
  refine a_clone (ad := "[J") (x := (32, .inr (.inl (fun j => M (j + 1))))) hx hb (hml.trans hl.1.symm) hown (hts _ q505) (hts _ q506) (hts _ q160) (hts _ q161) (hts _ q507) (va_Nw.warmC hG.1 (va_Nw.of rfl (Z.2.1 _ q508))) hK (hR0.up hS) hP hD hS hA 1 1 rfl (hR0.2 1 _ rfl) rfl (va_nm_long (hK.2 1 _ rfl).2) fit_long (Nat.le_of_ble_eq_true rfl) (by decide) (by first | decide | omega) (by first | exact Nat.le_of_ble_eq_true rfl | decide | omega) dX6_with_4 (fun cl_1 H hP hD hS => ?_)
  have hP : va_P (dC, dI) vwCl [(cl_1, .inl (dA 1, 32, .inr (.inl (fun j => M (j + 1)))))] H := hP
  have hD : va_D A [(cl_1, .inl (dA 1, 32, .inr (.inl (fun j => M (j + 1)))))] := hD
  refine va_castA hx hb hown (hts _ q509) hP 0 rfl (va_nm_long (hK.2 1 _ rfl).2) dX6_with_7 ?_
  refine lv_astore (lv' := [(6, .ref cl_1), (0, .ref ma), (1, .int (nI b)), (2, .long x), (4, .long y)]) hx hb dX6_with_10 hl (by decide) rfl (fun ls hl => ?_)
  refine lv_iconst (v := nI 0) hx hb dX6_with_12 (by decide) ?_
  refine lv_istore (lv' := [(7, .int (nI 0)), (6, .ref cl_1), (0, .ref ma), (1, .int (nI b)), (2, .long x), (4, .long y)]) hx hb dX6_with_13 hl (by decide) rfl (fun ls hl => ?_)
  have e9 : (fun j => M (j + 1) : Nat → Int64) = (mulT M y 0) := (mulT_0 _ _).symm
  rw [e9] at hP hD; clear e9
  have loop_2 : ∀ (n9_2 : Nat) (k : Nat) (H : Heap) (locs : List Loc) (ls : Array Slot), 32 - k < n9_2 → (k ≤ 32) → va_P (dC, dI) vwCl [(cl_1, .inl (dA 1, 32, .inr (.inl (mulT M y k))))] H → va_D A [(cl_1, .inl (dA 1, 32, .inr (.inl (mulT M y k))))] → va_S A s.heap H locs → lv_has ls 8 [(0, .ref ma), (1, .int (nI b)), (2, .long x), (4, .long y), (6, .ref cl_1), (7, .int (nI k))] → W p l e ({ frames := 6, cells := 2, slots := 38, locals := 360 } : Room) s m args below meth c H locs (0 + 1) (0 + 32) Q (F0 m 15 ls []) := by
    intro n9_2
    induction n9_2 with
    | zero => intro k H locs ls hm_2; exact absurd hm_2 (Nat.not_lt_zero _)
    | succ n9_2 ih_2 =>
      intro k H locs ls hm_2 hk9 hP hD hS hl
      refine lv_iload hx hb dX6_with_15 (lv_at hl 5 rfl) ?_
      refine lv_bipush (v := nI 32) hx hb dX6_with_17 (by decide) ?_
      refine lv_icmp_ge (tgt := 38) hx hb dX6_with_19 (by decide) (fun c_19 => ?_) (fun c_19 => ?_)
      · have c_19 : 32 ≤ k := (nI_leI (a := 32) (b := k) (by omega) (by omega)).mp c_19
        obtain rfl : k = 32 := by omega
        refine lv_aload hx hb dX6_with_38 (lv_at hl 4 rfl) ?_
        refine lv_iload_n hx hb dX6_with_40 rfl (lv_at hl 1 rfl) ?_
        refine lv_lload_n hx hb dX6_with_41 rfl (lv_at hl 2 rfl) ?_
        refine lv_aload_n hx hb dX6_with_42 rfl (lv_at hl 0 rfl) ?_
        refine va_get (D := (dC, dI)) (ci := 0) (v := .long (M 0)) (C := RX6) (T := TX6) (N := 2) hx hb hts in_X6 hown hK (hR0.up hS) 0 rfl rfl 1 (by decide) (hts _ q553) (fun _ h9 => h9) rfl dX6_with_43 ?_
        refine lv_lmul hx hb dX6_with_46 ?_
        refine a_last hx hb hK hP hD hS 0 1 rfl rfl (by omega) (by omega) dX6_with_47 (fun H locs hP hD hS => ?_)
        have hP : va_P (dC, dI) vwCl [(cl_1, .inl (dA 1, 32, .inr (.inl (vp_updL (mulT M y 32) b (x * (M 0))))))] H := hP
        have hD : va_D A [(cl_1, .inl (dA 1, 32, .inr (.inl (vp_updL (mulT M y 32) b (x * (M 0))))))] := hD
        have hP := P_L hP 0 (setR b x y M) rfl (fun j hj => mulT_set hj)
        have hD := va_D.set (e := .inl (dA 1, 32, .inr (.inl (setR b x y M)))) hD (p := 0) rfl
        have hP : va_P (dC, dI) vwCl [(cl_1, .inl (dA 1, 32, .inr (.inl (setR b x y M))))] H := hP
        have hD : va_D A [(cl_1, .inl (dA 1, 32, .inr (.inl (setR b x y M))))] := hD
        refine lv_aload hx hb dX6_with_48 (lv_at hl 4 rfl) ?_
        refine lv_aload_n hx hb dX6_with_50 rfl (lv_at hl 0 rfl) ?_
        refine va_get (D := (dC, dI)) (ci := 0) (v := .long (M 0)) (C := RX6) (T := TX6) (N := 2) hx hb hts in_X6 hown hK (hR0.up hS) 0 rfl rfl 1 (by decide) (hts _ q553) (fun _ h9 => h9) rfl dX6_with_51 ?_
        refine lv_lload hx hb dX6_with_54 (lv_at hl 3 rfl) ?_
        refine lv_lmul hx hb dX6_with_56 ?_
        have hF9 := va_free (wc := [(cl_1, .inl (dA 1, 32, .inr (.inl (setR b x y M))))]) hD hS (fun q h => hA q h) [0] rfl
        refine x_r (wc := [(cl_1, .inl (dA 1, 32, .inr (.inl (setR b x y M))))]) (wr := []) (vx_runS (As := [.ref cl_1, .long ((M 0) * y)]) (rest := []) ⟨hx, hb, hml, hown, hts⟩ (x6_fit Z (va_A [(cl_1, .inl (dA 1, 32, .inr (.inl (setR b x y M))))] H.size) H.size (fun q h => Or.inr h) Y cl_1 ((M 0) * y) (setR b x y M) (aN_pos hu) (nm_p hu) (fun j hj => setR_nm hxx hy sM hj)) (va_cwS 2 hts (lw_S q510 q511 q102 q512) rfl rfl rfl (by decide +kernel) ⟨Nat.le_of_ble_eq_true rfl, Nat.le_of_ble_eq_true rfl⟩) (gP_S hG hS (fun q _ h => hF9 q h) ⟨rfl, (hP.sub (ws' := [(cl_1, .inl (dA 1, 32, .inr (.inl (setR b x y M))))]) [0] rfl), (hD.sub (ws' := [(cl_1, .inl (dA 1, 32, .inr (.inl (setR b x y M))))]) [0] (by decide) rfl).self⟩) rfl rfl hl.1 rfl (lv_room (Nat.le_of_ble_eq_true rfl)) dX6_with_57 ⟨by first | decide | omega, by first | decide | omega⟩) hP hD hS hA [0] [] rfl rfl (by decide) (by decide) (fun E ce q9 u9 t9 H locs ht9 hp9 hb9 hz hP hS h1 h2 h3 => ?_) (fun u9 ra9 H locs hq hX hz hk hP hD hS => ?_)
        · have hD := hD.sub (ws' := []) [] (by decide) rfl
          have hP : va_P (dC, dI) vwCl [] H := hP
          have hD : va_D A [] := hD
          subst hb9
          subst hQe
          exact vx_out (fun x h => (hnoH x h).elim) hlocks h1 h2 h3 (fun t10 e10 _ => ⟨(), ((fitG_pos hu).symm.trans hp9), rfl, hS.F e10⟩) hS.2.2 (by first | decide | omega) (by first | decide | omega)
        obtain ⟨ra_3, rfl⟩ : ∃ z, z = ra9 := ⟨_, rfl⟩
        have e_3 := hq
        obtain ⟨M_3, rfl⟩ : ∃ z, z = u9 := ⟨_, rfl⟩
        have sm_3 : MSm M_3 := fitG_sm (aN_pos hu) (nm_p hu) e_3
        have hP : va_P (dC, dI) vwCl [(ra_3, .inr (0, [.ref cl_1, .long (M_3 0)])), (cl_1, .inl (dA 1, 32, .inr (.inl (fun j => M_3 (j + 1)))))] H := hP
        have hD : va_D A [(ra_3, .inr (0, [.ref cl_1, .long (M_3 0)])), (cl_1, .inl (dA 1, 32, .inr (.inl (fun j => M_3 (j + 1)))))] := hD
        subst hQe
        refine vx_ret ?_
        refine W.widen (k := 2) (n := 38) (by first | decide | omega) (by first | decide | omega) ?_
        exact W.aret (v := .ref ra_3) hx hb hr (Or.inl ⟨_, rfl⟩) (Or.inr ⟨_, rfl⟩) (fun tz ht hW => ⟨⟨(cl_1, M_3), ra_3, rfl, ((fitG_pos hu).symm.trans e_3), B1r_at ht (hP.sub [0, 1] rfl) (hD.sub [0, 1] (by decide) rfl) trivial⟩, hS.F ht⟩) hS.2.2 dX6_with_60
      · have c_19 : ¬ 32 ≤ k := fun h => c_19 ((nI_leI (a := 32) (b := k) (by omega) (by omega)).mpr h)
        refine lv_aload hx hb dX6_with_22 (lv_at hl 4 rfl) ?_
        refine lv_iload hx hb dX6_with_24 (lv_at hl 5 rfl) ?_
        refine lv_dup2_11 hx hb dX6_with_26 rfl rfl ?_
        refine a_lald hx hb hK hP 0 1 rfl rfl (by omega) (by omega) dX6_with_27 ?_
        refine lv_lload hx hb dX6_with_28 (lv_at hl 3 rfl) ?_
        refine lv_lmul hx hb dX6_with_30 ?_
        refine a_last hx hb hK hP hD hS 0 1 rfl rfl (by omega) (by omega) dX6_with_31 (fun H locs hP hD hS => ?_)
        have hP : va_P (dC, dI) vwCl [(cl_1, .inl (dA 1, 32, .inr (.inl (vp_updL (mulT M y k) k (((mulT M y k) k) * y)))))] H := hP
        have hD : va_D A [(cl_1, .inl (dA 1, 32, .inr (.inl (vp_updL (mulT M y k) k (((mulT M y k) k) * y)))))] := hD
        have e9 : (vp_updL (mulT M y k) k (((mulT M y k) k) * y) : Nat → Int64) = (mulT M y (k + 1)) := mulT_s _ _ _
        rw [e9] at hP hD; clear e9
        refine lv_iinc (v := nI (k + 1)) (lv' := [(7, .int (nI (k + 1))), (0, .ref ma), (1, .int (nI b)), (2, .long x), (4, .long y), (6, .ref cl_1)]) hx hb dX6_with_32 hl (k := 5) rfl (by exact nI_add _ 1) (by decide) rfl (fun ls hl => ?_)
        refine lv_goto (tgt := 15) hx hb dX6_with_35 (by decide) ?_
        exact ih_2 (k + 1) H locs ls (by omega) (by omega) (hP.sub [0] rfl) (hD.sub [0] (by decide) rfl) hS (lv_sub hl [1, 2, 3, 4, 5, 0] rfl)
  exact loop_2 _ 0 H [] ls (Nat.lt_succ_self _) (by omega) hP hD hS (lv_sub hl [2, 3, 4, 5, 1, 0] rfl)
