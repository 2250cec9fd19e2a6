section IM
variable {n : Nat} {Ms : Nat → MV} {f : Int32} {j k : Nat}
theorem im_1 (h : inB f (nI 0) (nI (8 - n)) = false) : wmX n Ms true f = nI 1 := by
  unfold wmX; rw [if_neg (by decide), if_pos h]
theorem im_2 (h : inB (nI j) (nI 0) (nI (8 - n)) = true) (hv : vecsN Ms j n = false) (hj : j < 2 ^ 31) : wmX n Ms true (nI j) = nI 2 := by
  unfold wmX; rw [if_neg (by decide), if_neg (by rw [h]; decide), clp hj, if_neg (by rw [hv]; decide)]
theorem im_ok (hj : j < 2 ^ 31) (h : inB (nI j) (nI 0) (nI (8 - n)) = true) (hv : vecsN Ms j n = true) : wmX n Ms true (nI j) = nI 0 := by
  unfold wmX; rw [if_neg (by decide), if_neg (by rw [h]; decide), clp hj, if_pos hv]
theorem im_s (h : vecsN Ms j k = true) (h2 : vecB (Ms (j + k)) = true) : vecsN Ms j (k + 1) = true := by
  show (vecsN Ms j k && vecB (Ms (j + k))) = true
  rw [h, h2]; rfl
theorem im_v (h : vecB (Ms (j + k)) = false) (hk : k + 1 ≤ n) : vecsN Ms j n = false := vecsN_mono (a := k + 1) (show (vecsN Ms j k && vecB (Ms (j + k))) = false by rw [h, Bool.and_false]) hk
end IM
section MD
variable {p q r t a f : Nat} {Ms : Nat → MV} {C : MV}
theorem mp_32 {M : MV} {y : Option MV} (hn : p + q + r ≤ 5) (pM : MSp (2 ^ (p + q + r)) M) (h : mpS p q r M Ms f 32 = y) : mpS p q r M Ms f (2 ^ (p + q + r)) = y := by
  have h5 := pow5 hn
  cases e : mpS p q r M Ms f (2 ^ (p + q + r)) with
  | none => rw [← h, mpS_none e (by omega)]
  | some S => rw [← h, mp_k (by omega) e (fun j a b => pM j a b)]
theorem map_1 {t a f : Int32} (h : (rgB t && rgB a) = false) : mapX p q r Ms t a f = (nI 1, none) := by
  have e : wmX (p + q + r) Ms (rgB t && rgB a) f = nI 1 := if_pos h
  unfold mapX; rw [e]; rfl
theorem map_2 {f : Int32} (ht : t < 8) (ha : a < 8) (h : wmX (p + q + r) Ms true f = nI 1) : mapX p q r Ms (nI t) (nI a) f = (nI 1, none) := by
  unfold mapX; rw [rg_t ht, rg_t ha, show (true && true) = true from rfl, h]; rfl
theorem map_3 {f : Int32} (ht : t < 8) (ha : a < 8) (h : wmX (p + q + r) Ms true f = nI 2) : mapX p q r Ms (nI t) (nI a) f = (nI 2, none) := by
  unfold mapX; rw [rg_t ht, rg_t ha, show (true && true) = true from rfl, h]; rfl
theorem map_e {y : Option MV} (hn : p + q + r ≤ 5) (ht : t < 8) (ha : a < 8) (h : wmX (p + q + r) Ms true (nI f) = nI 0) (pM : MSp (2 ^ (p + q + r)) (Ms a)) (hf : f < 2 ^ 31) (e : mpS p q r (Ms a) Ms f 32 = y) : mapX p q r Ms (nI t) (nI a) (nI f) = optC (nI 3) y := by
  unfold mapX; rw [rg_t ht, rg_t ha, show (true && true) = true from rfl, h, rg_n ha, clp hf, mp_32 hn pM e]; rfl
theorem map_x (hn : p + q + r ≤ 5) (ht : t < 8) (ha : a < 8) (h : wmX (p + q + r) Ms true (nI f) = nI 0) (pM : MSp (2 ^ (p + q + r)) (Ms a)) (hf : f < 2 ^ 31) (e : mpS p q r (Ms a) Ms f 32 = none) : mapX p q r Ms (nI t) (nI a) (nI f) = (nI 3, none) := map_e hn ht ha h pM hf e
theorem map_ok (hn : p + q + r ≤ 5) (ht : t < 8) (ha : a < 8) (h : wmX (p + q + r) Ms true (nI f) = nI 0) (pM : MSp (2 ^ (p + q + r)) (Ms a)) (hf : f < 2 ^ 31) (e : mpS p q r (Ms a) Ms f 32 = some C) : mapX p q r Ms (nI t) (nI a) (nI f) = (nI 0, some C) := map_e hn ht ha h pM hf e
theorem det_z {b : Nat} (hb : b < 32) : nxF (basM b) 0 < 32 := by
  apply Decidable.byContradiction
  intro c
  have h := nx_z (M := basM b) (i := 0) b (Nat.zero_le _) (by omega)
  have h1 : basM b (b + 1) = 1 := by
    show (if b + 1 = 0 then (1 : Int64) else if b + 1 = b + 1 then 1 else 0) = 1
    rw [if_neg (by omega), if_pos rfl]
  rw [h1] at h
  exact absurd h (by decide)
theorem det_m {y : Option MV} (hn : p + q + r ≤ 5) (e : mpS p q r (basM (2 ^ (p + q + r) - 1)) Ms f 32 = y) : mpS p q r (basM (2 ^ (p + q + r) - 1)) Ms f (2 ^ (p + q + r)) = y := mp_32 hn (basM_sp (by have := Nat.two_pow_pos (p + q + r); omega)) e
theorem det_1 {t f : Int32} (h : rgB t = false) : detX p q r Ms t f = (nI 1, none) := by
  have e : wmX (p + q + r) Ms (rgB t) f = nI 1 := if_pos h
  unfold detX; rw [e]; rfl
theorem det_2 {f : Int32} (ht : t < 8) (h : wmX (p + q + r) Ms true f = nI 1) : detX p q r Ms (nI t) f = (nI 1, none) := by
  unfold detX; rw [rg_t ht, h]; rfl
theorem det_3 {f : Int32} (ht : t < 8) (h : wmX (p + q + r) Ms true f = nI 2) : detX p q r Ms (nI t) f = (nI 2, none) := by
  unfold detX; rw [rg_t ht, h]; rfl
theorem det_x (ht : t < 8) (h : wmX (p + q + r) Ms true (nI f) = nI 0) (hf : f < 2 ^ 31) (e : mpS p q r (basM (2 ^ (p + q + r) - 1)) Ms f (2 ^ (p + q + r)) = none) : detX p q r Ms (nI t) (nI f) = (nI 3, none) := by
  unfold detX; rw [rg_t ht, h, clp hf, e]; rfl
theorem det_ok {D : MV} (ht : t < 8) (h : wmX (p + q + r) Ms true (nI f) = nI 0) (hf : f < 2 ^ 31) (e : mpS p q r (basM (2 ^ (p + q + r) - 1)) Ms f (2 ^ (p + q + r)) = some D) : detX p q r Ms (nI t) (nI f) = (nI 0, some (redS (D 0) (detR D (2 ^ (p + q + r) - 1)))) := by
  unfold detX; rw [rg_t ht, h, clp hf, e]; rfl
theorem det_f {D : MV} (sD : MSm D) {b : Nat} (hb : b < 32) : ofS 0 (D (b + 1)) (D 0) = some (redS (D 0) (detR D b)) := by
  have e : vp_updL (fun _ => (0 : Int64)) 0 (D (b + 1)) = detR D b := by
    funext j
    show _ = if j = 0 then D (b + 1) else 0
    by_cases c : j = 0
    · subst c; rw [pk_uLs, if_pos rfl]
    · rw [pk_uLn c, if_neg c]
  unfold ofS
  rw [e, fitG_pos sD.1]
  exact fitS_t (fit_small sD.1 sD.2.1 (fun j _ => detR_bd sD hb j))
end MD
set_option maxHeartbeats 4000000 in
theorem x1_images {l : Launch} {dC : Nat → ClassId} {dI : Nat → Nat → Nat} {dA : Nat → ClassId} {s0 : State} {b0 : Addr} (Z : Z0 l dC dI dA s0 b0) (A : Nat → Prop) (sz : Nat) (hA : ∀ q : Nat, sz ≤ q → A q) {σ : Nat → Nat} (Y : SS (dC, dI) dA σ s0) (xa : Nat → Nat) (tl : Nat) (ec ep : Int32) (ga sg : Nat) (sr : Nat → Nat) (p0 q0 r0 : Nat) (rm rr : Nat → Nat) (Ms : Nat → MV) (f9 : Int32) (sR : ∀ k, k < 8 → MSm (Ms k)) (pR : ∀ k, k < 8 → MSp (2 ^ (p0 + q0 + r0)) (Ms k)) : vx_Met l yX1_images (ws_ yX1_images cX1_images 3 none) ({ frames := 8, cells := 8, slots := 48, locals := 480 } : Room) (gP [.ref (xa 0), .int f9] s0 A (fun H => H.size = sz ∧ RO A (dC, dI) [((xa 0), .inr (3, xFs xa tl ec ep)), ((xa 3), .inr (4, [.ref ga, .ref (xa 7)]))] H ∧ RO A (dC, dI) [((xa 7), .inl (dA 4, 8, .inr (.inr (.inr (.inr (fun k => some (rm k)))))))] H ∧ AG A (dC, dI) dA ga sg sr p0 q0 r0 H ∧ RG A (dC, dI) dA rm rr Ms H)) (va_Qv (S := Unit) (fun _ => wmX (p0 + q0 + r0) Ms true f9 = nI 0) (B1 (dC, dI) A (fun _ => []) (fun _ _ => True)) A) (vx_X (S := Unit) (fun _ => True) (fun _ E _ _ => (E = "java/lang/IndexOutOfBoundsException" ∧ wmX (p0 + q0 + r0) Ms true f9 = nI 1) ∨ (E = "java/lang/IllegalStateException" ∧ wmX (p0 + q0 + r0) Ms true f9 = nI 2)) A) 8 48 A := by
  refine vx_ofW (cc := cX1_images) (maxL := 3) (ret := none) (by decide) rfl ?_
  intro p e s m args below meth c s₁ B hml hnoH hv
  obtain ⟨hav, hG, hsz, hR0, hR1, hAG, hRG⟩ := hv
  have hx := B.exec
  have hb := B.bytes
  have hr := B.returns
  have hts := atoms_spec (ws := (ws_ yX1_images cX1_images 3 none)) B.pre
  have hts : ∀ w ∈ lw_all, w.before _ s = true := fun w h => hts w (List.mem_cons_of_mem _ h)
  have hown : s.vm.findClass RX1 = some m.cls := findClass_of_methodNamed B.named
  have hlocks := B.notSynchronized
  have hK := hG.K Z
  subst hsz
  have hS : va_S A s.heap s.heap [] := va_S.rf
  have hP : va_P (dC, dI) vwCl [] s.heap := fun k q h => by simp at h
  have hD : va_D A [] := ⟨fun i j p q h => by simp at h, fun k q h => by simp at h⟩
  have hl := lv_entry ([.ref (xa 0), .int f9]) (n := 3) (Nat.le_of_ble_eq_true rfl)
  rw [show entryFrame m args 3 = entryFrame m ([.ref (xa 0), .int f9] : List Value).toArray 3 from by rw [hav], lg_entry_eq]
  generalize (lg_sl ([.ref (xa 0), .int f9]) ++ List.replicate (3 - (lg_sl ([.ref (xa 0), .int f9])).length) Slot.unset).toArray = ls at hl ⊢
  have hl : lv_has ls 3 [(0, .ref (xa 0)), (1, .int f9)] := hl
  generalize hQe : vx_MQ below _ _ _ s _ _ _ = Q
  change W p l e ({ frames := 8, cells := 8, slots := 48, locals := 480 } : Room) s m args below meth c s.heap [] 0 0 Q (F0 m 0 ls [])
  have hn := hAG.1
  have h5 := pow5 hn
  have hR2 := hAG.2.1
  refine lv_iload_n hx hb dX1_images_0 rfl (lv_at hl 1 rfl) ?_
  refine lv_i2l (v := f9.toInt64) hx hb dX1_images_1 rfl ?_
  refine lv_lconst (v := 0) hx hb dX1_images_2 rfl ?_
  refine lv_bipush (v := nI 8) hx hb dX1_images_3 (by decide) ?_
  refine lv_aload_n hx hb dX1_images_5 rfl (lv_at hl 0 rfl) ?_
  refine va_get (D := (dC, dI)) (ci := 3) (v := .ref (xa 3)) (C := RX1) (T := TX1) (N := 9) hx hb hts in_X1 hown hK (hR0.up hS) 0 rfl rfl 2 (by decide) (hts _ q286) (fun _ h9 => h9) rfl dX1_images_6 ?_
  refine va_getN (D := (dC, dI)) (ci := 4) (v := .ref ga) (C := RX4) (T := TX4) (N := 2) hx hb hts in_X4 hown hK (hR0.up hS) 1 rfl rfl 0 (by decide) (((va_Nw.warmF hG.1 (va_Nw.of rfl (Z.2.1 _ q240)))).use rfl) (fun _ h9 => h9) rfl dX1_images_9 ?_
  refine va_getN (D := (dC, dI)) (ci := 1) (v := .int (nI (p0 + q0 + r0))) (C := RX5) (T := TX5) (N := 6) hx hb hts in_X5 hown hK (hR2.up hS) 0 rfl rfl 3 (by decide) (((va_Nw.warmF hG.1 (va_Nw.of rfl (Z.2.1 _ q209)))).use rfl) (fun _ h9 => h9) rfl dX1_images_12 ?_
  refine lv_isub hx hb dX1_images_15 ?_
  refine e_i (y := nI (8 - (p0 + q0 + r0))) (pk_sub (by omega)) ?_
  refine lv_i2l (v := (nI (8 - (p0 + q0 + r0))).toInt64) hx hb dX1_images_16 rfl ?_
  refine s_i (va_runS (As := [.long f9.toInt64, .long 0, .long ((nI (8 - (p0 + q0 + r0))).toInt64)]) (rest := []) ⟨hx, hb, hml, hown, hts⟩ (x1_isIn Z f9.toInt64 0 ((nI (8 - (p0 + q0 + r0))).toInt64)) (va_cwS 3 hts (lw_S q332 q333 q96 q334) rfl rfl rfl (by decide +kernel) ⟨Nat.le_of_ble_eq_true rfl, Nat.le_of_ble_eq_true rfl⟩) (gP_S hG hS (fun q _ h => h.elim) trivial) rfl rfl hl.1 rfl (lv_room (Nat.le_of_ble_eq_true rfl)) dX1_images_17 ⟨by first | decide | omega | (show _ ≤ (8 : Nat); omega), by first | decide | omega | (show _ ≤ (48 : Nat); omega)⟩) ?_
  refine e_i (y := bI (inB f9 (nI 0) (nI (8 - (p0 + q0 + r0))))) (congrArg bI (inL_B f9 (nI 0) (nI (8 - (p0 + q0 + r0))))) ?_
  have hF9 := va_free (wc := []) hD hS (fun q h => hA q h) [] rfl
  refine x_v (wc := []) (wr := []) (vx_runS (As := [.int (bI (inB f9 (nI 0) (nI (8 - (p0 + q0 + r0)))))]) (rest := []) ⟨hx, hb, hml, hown, hts⟩ (x1_index Z (va_A [] s.heap.size) s.heap.size (fun q h => Or.inr h) (SS.st Y) (σ 50) (SS.st0 Y) (inB f9 (nI 0) (nI (8 - (p0 + q0 + r0))))) (va_cwS 1 hts (lw_S q473 q474 q96 q475) rfl rfl rfl (by decide +kernel) ⟨Nat.le_of_ble_eq_true rfl, Nat.le_of_ble_eq_true rfl⟩) (gP_S hG hS (fun q _ h => hF9 q h) rfl) rfl rfl hl.1 rfl (lv_room (Nat.le_of_ble_eq_true rfl)) dX1_images_20 ⟨by first | decide | omega | (show _ ≤ (8 : Nat); omega), by first | decide | omega | (show _ ≤ (48 : Nat); omega)⟩) hP hD hS hA [] [] rfl rfl (by decide) (by decide) (fun E ce q9 u9 t9 H locs ht9 hp9 hb9 hz hP hS h1 h2 h3 => ?_) (fun u9 H locs hq hX hz hk hP hD hS => ?_)
  · have hD := hD.sub (ws' := []) [] (by decide) rfl
    have hP : va_P (dC, dI) vwCl [] H := hP
    have hD : va_D A [] := hD
    subst hb9
    subst hQe
    exact vx_out (fun x h => (hnoH x h).elim) hlocks h1 h2 h3 (fun t10 e10 _ => ⟨(), trivial, Or.inl ⟨rfl, im_1 hp9⟩, hS.F e10⟩) hS.2.2 (by first | decide | omega) (by first | decide | omega)
  have hg20 : (inB f9 (nI 0) (nI (8 - (p0 + q0 + r0)))) = true := hq
  clear hq
  have hP : va_P (dC, dI) vwCl [] H := hP
  have hD : va_D A [] := hD
  obtain ⟨jf, h9jf, e8jf⟩ := inB_nat (by omega) hg20
  have hP0 := hP
  have hD0 := hD
  subst e8jf
  have hP := hP0
  have hD := hD0
  refine lv_iconst (v := nI 0) hx hb dX1_images_23 (by decide) ?_
  refine lv_istore_n (lv' := [(2, .int (nI 0)), (0, .ref (xa 0)), (1, .int (nI jf))]) hx hb dX1_images_24 rfl hl (by decide) rfl (fun ls hl => ?_)
  have loop_1 : ∀ (n9_1 : Nat) (kc : Nat) (H : Heap) (locs : List Loc) (ls : Array Slot), 6 - kc < n9_1 → (kc ≤ p0 + q0 + r0) → (vecsN Ms jf kc = true) → va_P (dC, dI) vwCl [] H → va_D A [] → va_S A s.heap H locs → lv_has ls 3 [(0, .ref (xa 0)), (1, .int (nI jf)), (2, .int (nI kc))] → W p l e ({ frames := 8, cells := 8, slots := 48, locals := 480 } : Room) s m args below meth c H locs (1 + 1 * kc) (6 + 6 * kc) Q (F0 m 25 ls []) := by
    intro n9_1
    induction n9_1 with
    | zero => intro kc H locs ls hm_1; exact absurd hm_1 (Nat.not_lt_zero _)
    | succ n9_1 ih_1 =>
      intro kc H locs ls hm_1 hkc hvs hP hD hS hl
      refine lv_iload_n hx hb dX1_images_25 rfl (lv_at hl 2 rfl) ?_
      refine lv_aload_n hx hb dX1_images_26 rfl (lv_at hl 0 rfl) ?_
      refine va_get (D := (dC, dI)) (ci := 3) (v := .ref (xa 3)) (C := RX1) (T := TX1) (N := 9) hx hb hts in_X1 hown hK (hR0.up hS) 0 rfl rfl 2 (by decide) (hts _ q286) (fun _ h9 => h9) rfl dX1_images_27 ?_
      refine va_getN (D := (dC, dI)) (ci := 4) (v := .ref ga) (C := RX4) (T := TX4) (N := 2) hx hb hts in_X4 hown hK (hR0.up hS) 1 rfl rfl 0 (by decide) (((va_Nw.warmF hG.1 (va_Nw.of rfl (Z.2.1 _ q240)))).use rfl) (fun _ h9 => h9) rfl dX1_images_30 ?_
      refine va_getN (D := (dC, dI)) (ci := 1) (v := .int (nI (p0 + q0 + r0))) (C := RX5) (T := TX5) (N := 6) hx hb hts in_X5 hown hK (hR2.up hS) 0 rfl rfl 3 (by decide) (((va_Nw.warmF hG.1 (va_Nw.of rfl (Z.2.1 _ q209)))).use rfl) (fun _ h9 => h9) rfl dX1_images_33 ?_
      refine lv_icmp_ge (tgt := 62) hx hb dX1_images_36 (by decide) (fun c_36 => ?_) (fun c_36 => ?_)
      · have c_36 : (p0 + q0 + r0) ≤ kc := (nI_leI (a := (p0 + q0 + r0)) (b := kc) (by omega) (by omega)).mp c_36
        obtain rfl : kc = p0 + q0 + r0 := by omega
        subst hQe
        refine vx_ret ?_
        refine W.widen (k := 8) (n := 48) (by first | decide | omega) (by first | decide | omega) ?_
        exact W.vret hx hb hr (fun tz ht hW => ⟨⟨(), rfl, im_ok (by omega) hg20 hvs, B1_at ht (hP.sub [] rfl) (hD.sub [] (by decide) rfl) trivial⟩, hS.F ht⟩) hS.2.2 dX1_images_62
      · have c_36 : ¬ (p0 + q0 + r0) ≤ kc := fun h => c_36 ((nI_leI (a := (p0 + q0 + r0)) (b := kc) (by omega) (by omega)).mpr h)
        refine lv_aload_n hx hb dX1_images_39 rfl (lv_at hl 0 rfl) ?_
        refine va_get (D := (dC, dI)) (ci := 3) (v := .ref (xa 3)) (C := RX1) (T := TX1) (N := 9) hx hb hts in_X1 hown hK (hR0.up hS) 0 rfl rfl 2 (by decide) (hts _ q286) (fun _ h9 => h9) rfl dX1_images_40 ?_
        refine va_getN (D := (dC, dI)) (ci := 4) (v := .ref (xa 7)) (C := RX4) (T := TX4) (N := 2) hx hb hts in_X4 hown hK (hR0.up hS) 1 rfl rfl 1 (by decide) (((va_Nw.warmF hG.1 (va_Nw.of rfl (Z.2.1 _ q243)))).use rfl) (fun _ h9 => h9) rfl dX1_images_43 ?_
        refine lv_iload_n hx hb dX1_images_46 rfl (lv_at hl 1 rfl) ?_
        refine lv_iload_n hx hb dX1_images_47 rfl (lv_at hl 2 rfl) ?_
        refine lv_iadd hx hb dX1_images_48 ?_
        refine e_i (y := nI (jf + kc)) (nI_add _ _) ?_
        refine a_aldq hx hb hK (hR1.up hS) 0 4 rfl rfl (by omega) (by decide) dX1_images_49 ?_
        refine e_v (y := .ref (rm (jf + kc))) (rfl) ?_
        have hR3 := hRG (jf + kc) (by omega)
        obtain ⟨gr, Yg⟩ : ∃ g, SG (dC, dI) dA g s0 := ⟨_, SS.gr Y⟩
        refine s_i (va_runV (As := []) (rest := []) ⟨hx, hb, hml, hown, hts⟩ (x6_isVector Z gr Yg (rm (jf + kc)) (rr (jf + kc)) (Ms (jf + kc))) (cwV 0 hts (lw_V q915 q916 q917 q102 q918) rfl rfl rfl (by decide +kernel) ⟨Nat.le_of_ble_eq_true rfl, Nat.le_of_ble_eq_true rfl⟩) (gP_V (va_recv hK (hR3.up hS) (ci := 0) (q0 := 0) rfl rfl) hG hS (fun q _ h => h.elim) ((hR3.up hS).sub (ws' := [((rm (jf + kc)), .inr (0, [.ref (rr (jf + kc)), .long (Ms (jf + kc) 0)])), ((rr (jf + kc)), .inl (dA 1, 32, .inr (.inl (fun j => Ms (jf + kc) (j + 1)))))]) [0, 1] rfl)) rfl rfl hl.1 rfl (lv_room (Nat.le_of_ble_eq_true rfl)) dX1_images_50 ⟨by first | decide | omega | (show _ ≤ (8 : Nat); omega), by first | decide | omega | (show _ ≤ (48 : Nat); omega)⟩) ?_
        have hF9 := va_free (wc := []) hD hS (fun q h => hA q h) [] rfl
        refine x_v (wc := []) (wr := []) (vx_runS (As := [.int (bI (decide (grS (Ms (jf + kc)) &&& 61 = 0)))]) (rest := []) ⟨hx, hb, hml, hown, hts⟩ (x1_possible Z (va_A [] H.size) H.size (fun q h => Or.inr h) (SS.st Y) (σ 52) (SS.st2 Y) (decide (grS (Ms (jf + kc)) &&& 61 = 0))) (va_cwS 1 hts (lw_S q891 q776 q96 q777) rfl rfl rfl (by decide +kernel) ⟨Nat.le_of_ble_eq_true rfl, Nat.le_of_ble_eq_true rfl⟩) (gP_S hG hS (fun q _ h => hF9 q h) rfl) rfl rfl hl.1 rfl (lv_room (Nat.le_of_ble_eq_true rfl)) dX1_images_53 ⟨by first | decide | omega | (show _ ≤ (8 : Nat); omega), by first | decide | omega | (show _ ≤ (48 : Nat); omega)⟩) hP hD hS hA [] [] rfl rfl (by decide) (by decide) (fun E ce q9 u9 t9 H locs ht9 hp9 hb9 hz hP hS h1 h2 h3 => ?_) (fun u9 H locs hq hX hz hk hP hD hS => ?_)
        · have hD := hD.sub (ws' := []) [] (by decide) rfl
          have hP : va_P (dC, dI) vwCl [] H := hP
          have hD : va_D A [] := hD
          subst hb9
          subst hQe
          exact vx_out (fun x h => (hnoH x h).elim) hlocks h1 h2 h3 (fun t10 e10 _ => ⟨(), trivial, Or.inr ⟨rfl, im_2 hg20 (im_v hp9 (show kc + 1 ≤ p0 + q0 + r0 by omega)) (by omega)⟩, hS.F e10⟩) hS.2.2 (by first | decide | omega) (by first | decide | omega)
        have hg53 : (decide (grS (Ms (jf + kc)) &&& 61 = 0)) = true := hq
        clear hq
        have hP : va_P (dC, dI) vwCl [] H := hP
        have hD : va_D A [] := hD
        refine lv_iinc (v := nI (kc + 1)) (lv' := [(2, .int (nI (kc + 1))), (0, .ref (xa 0)), (1, .int (nI jf))]) hx hb dX1_images_56 hl (k := 2) rfl (by exact nI_add _ 1) (by decide) rfl (fun ls hl => ?_)
        refine lv_goto (tgt := 25) hx hb dX1_images_59 (by decide) ?_
        exact ih_1 (kc + 1) H locs ls (by omega) (by omega) (im_s hvs hg53) (hP.sub [] rfl) (hD.sub [] (by decide) rfl) hS (lv_sub hl [1, 2, 0] rfl)
  exact loop_1 _ 0 H locs ls (Nat.lt_succ_self _) (Nat.zero_le _) rfl hP hD hS (lv_sub hl [1, 2, 0] rfl)
set_option maxHeartbeats 4000000 in
theorem x1_map {l : Launch} {dC : Nat → ClassId} {dI : Nat → Nat → Nat} {dA : Nat → ClassId} {s0 : State} {b0 : Addr} (Z : Z0 l dC dI dA s0 b0) (A : Nat → Prop) (sz : Nat) (hA : ∀ q : Nat, sz ≤ q → A q) {σ : Nat → Nat} (Y : SS (dC, dI) dA σ s0) (xa : Nat → Nat) (tl : Nat) (ec ep : Int32) (ga sg : Nat) (sr : Nat → Nat) (p0 q0 r0 : Nat) (rm rr : Nat → Nat) (Ms : Nat → MV) (t a f9 : Int32) (sR : ∀ k, k < 8 → MSm (Ms k)) (pR : ∀ k, k < 8 → MSp (2 ^ (p0 + q0 + r0)) (Ms k)) (hAf : ∀ q, A q → q = xa 7 ∨ sz ≤ q) : vx_Met l yX1_map (wsW_ yX1_map cX1_map 5 (some .int) [((19 : Nat), (38 : Nat), (39 : Nat), (179 : Nat))]) ({ frames := 10, cells := 600, slots := 10000, locals := 600 } : Room) (gP [.ref (xa 0), .int t, .int a, .int f9] s0 A (fun H => H.size = sz ∧ va_P (dC, dI) vwCl [((xa 7), .inl (dA 4, 8, .inr (.inr (.inr (.inr (fun k => some (rm k)))))))] H ∧ va_D A [((xa 7), .inl (dA 4, 8, .inr (.inr (.inr (.inr (fun k => some (rm k)))))))] ∧ RO A (dC, dI) [((xa 0), .inr (3, xFs xa tl ec ep)), ((xa 3), .inr (4, [.ref ga, .ref (xa 7)]))] H ∧ AG A (dC, dI) dA ga sg sr p0 q0 r0 H ∧ RG A (dC, dI) dA rm rr Ms H)) (va_Qi (S := Nat × Nat × MV) (fun r9 u => mapX p0 q0 r0 Ms t a f9 = (nI 0, some u.2.2) ∧ r9 = nI (trmS u.2.2)) (B1 (dC, dI) A (fun u => [(xa 7, .inl (dA 4, 8, .inr (.inr (.inr (.inr (va_up (fun k => some (rm k)) (rg t) (some u.1)))))))]) (fun u H => NM (dC, dI) dA σ rm rr Ms sz u H)) A) (vx_X (S := Unit) (fun _ => True) (fun _ E _ t9 => ((E = "java/lang/IndexOutOfBoundsException" ∧ mapX p0 q0 r0 Ms t a f9 = (nI 1, none)) ∨ (E = "java/lang/IllegalStateException" ∧ mapX p0 q0 r0 Ms t a f9 = (nI 2, none)) ∨ (E = "java/lang/ArithmeticException" ∧ mapX p0 q0 r0 Ms t a f9 = (nI 3, none))) ∧ va_P (dC, dI) vwCl [((xa 7), .inl (dA 4, 8, .inr (.inr (.inr (.inr (fun k => some (rm k)))))))] t9.heap) A) 600 10000 A := by
  refine vx_ofWH (cc := cX1_map) (maxL := 5) (ret := (some .int)) (by decide) rfl ?_
  intro p e s m args below meth c s₁ B hml hv
  obtain ⟨hav, hG, hsz, hP, hD, hR0, hAG, hRG⟩ := hv
  have hx := B.exec
  have hb := B.bytes
  have hr := B.returns
  have hts := atoms_spec (ws := (wsW_ yX1_map cX1_map 5 (some .int) [((19 : Nat), (38 : Nat), (39 : Nat), (179 : Nat))])) B.pre
  have hxt : c.exceptionTable.toList = [⟨19, 38, 39, 179⟩] := vx_table (x := yX1_map) (y := yX1_map) B (hts _ List.mem_cons_self)
  have hts : ∀ w ∈ lw_all, w.before _ s = true := fun w h => hts w (List.mem_cons_of_mem _ h)
  have hown : s.vm.findClass RX1 = some m.cls := findClass_of_methodNamed B.named
  have hlocks := B.notSynchronized
  have hK := hG.K Z
  subst hsz
  have hS : va_S A s.heap s.heap [] := va_S.rf
  have hl := lv_entry ([.ref (xa 0), .int t, .int a, .int f9]) (n := 5) (Nat.le_of_ble_eq_true rfl)
  rw [show entryFrame m args 5 = entryFrame m ([.ref (xa 0), .int t, .int a, .int f9] : List Value).toArray 5 from by rw [hav], lg_entry_eq]
  generalize (lg_sl ([.ref (xa 0), .int t, .int a, .int f9]) ++ List.replicate (5 - (lg_sl ([.ref (xa 0), .int t, .int a, .int f9])).length) Slot.unset).toArray = ls at hl ⊢
  have hl : lv_has ls 5 [(0, .ref (xa 0)), (1, .int t), (2, .int a), (3, .int f9)] := hl
  generalize hQe : vx_MQ below _ _ _ s _ _ _ = Q
  change W p l e ({ frames := 10, cells := 600, slots := 10000, locals := 600 } : Room) s m args below meth c s.heap [] 0 0 Q (F0 m 0 ls [])
  have hn := hAG.1
  have h5 := pow5 hn
  have hR1 := hAG.2.1
  refine lv_iconst (v := nI 2) hx hb dX1_map_0 (by decide) ?_
  refine a_newa (D := (dC, dI)) (atype := .int) (N' := 2) (a0 := (2, .inl (fun _ => 0))) hx hb (hts _ q230) rfl hK hP hD hS hA 0 rfl (fun _ => ra_int) (fun _ => rfl) (by decide) (by decide) (by decide) (by first | decide | omega) (by first | decide | omega) dX1_map_1 (fun na_1 H locs hP hD hS => ?_)
  have hP : va_P (dC, dI) vwCl [((xa 7), .inl (dA 4, 8, .inr (.inr (.inr (.inr (fun k => some (rm k))))))), (na_1, .inl (dA 0, 2, .inl (fun _ => 0)))] H := hP
  have hD : va_D A [((xa 7), .inl (dA 4, 8, .inr (.inr (.inr (.inr (fun k => some (rm k))))))), (na_1, .inl (dA 0, 2, .inl (fun _ => 0)))] := hD
  refine lv_dup hx hb dX1_map_3 rfl ?_
  refine lv_iconst (v := nI 0) hx hb dX1_map_4 (by decide) ?_
  refine lv_iload_n hx hb dX1_map_5 rfl (lv_at hl 1 rfl) ?_
  refine a_iast hx hb hK hP hD hS 1 0 rfl rfl (by omega) (by omega) dX1_map_6 (fun H locs hP hD hS => ?_)
  have hP : va_P (dC, dI) vwCl [((xa 7), .inl (dA 4, 8, .inr (.inr (.inr (.inr (fun k => some (rm k))))))), (na_1, .inl (dA 0, 2, .inl (upd (fun _ => 0) 0 t)))] H := hP
  have hD : va_D A [((xa 7), .inl (dA 4, 8, .inr (.inr (.inr (.inr (fun k => some (rm k))))))), (na_1, .inl (dA 0, 2, .inl (upd (fun _ => 0) 0 t)))] := hD
  refine lv_dup hx hb dX1_map_7 rfl ?_
  refine lv_iconst (v := nI 1) hx hb dX1_map_8 (by decide) ?_
  refine lv_iload_n hx hb dX1_map_9 rfl (lv_at hl 2 rfl) ?_
  refine a_iast hx hb hK hP hD hS 1 0 rfl rfl (by omega) (by omega) dX1_map_10 (fun H locs hP hD hS => ?_)
  have hP : va_P (dC, dI) vwCl [((xa 7), .inl (dA 4, 8, .inr (.inr (.inr (.inr (fun k => some (rm k))))))), (na_1, .inl (dA 0, 2, .inl (upd (upd (fun _ => 0) 0 t) 1 a)))] H := hP
  have hD : va_D A [((xa 7), .inl (dA 4, 8, .inr (.inr (.inr (.inr (fun k => some (rm k))))))), (na_1, .inl (dA 0, 2, .inl (upd (upd (fun _ => 0) 0 t) 1 a)))] := hD
  have hF9 := va_free (wc := []) hD hS (fun q h => hA q h) [] rfl
  refine x_v (wc := []) (wr := [((xa 7), .inl (dA 4, 8, .inr (.inr (.inr (.inr (fun k => some (rm k))))))), (na_1, .inl (dA 0, 2, .inl (upd (upd (fun _ => 0) 0 t) 1 a)))]) (vx_runS (As := [.ref na_1]) (rest := []) ⟨hx, hb, hml, hown, hts⟩ (x1_registers Z (va_A [] H.size) H.size (fun q h => Or.inr h) Y na_1 2 (upd (upd (fun _ => 0) 0 t) 1 a) (by decide)) (va_cwS 1 hts (lw_S q469 q470 q96 q471) rfl rfl rfl (by decide +kernel) ⟨Nat.le_of_ble_eq_true rfl, Nat.le_of_ble_eq_true rfl⟩) (gP_S hG hS (fun q _ h => hF9 q h) ⟨rfl, (RO.beside (wr := [(na_1, .inl (dA 0, 2, .inl (upd (upd (fun _ => 0) 0 t) 1 a)))]) hP hD [] [1] rfl rfl (by decide))⟩) rfl rfl hl.1 rfl (lv_room (Nat.le_of_ble_eq_true rfl)) dX1_map_11 ⟨by first | decide | omega | (show _ ≤ (600 : Nat); omega), by first | decide | omega | (show _ ≤ (10000 : Nat); omega)⟩) hP hD hS hA [] [0, 1] rfl rfl (by decide) (by decide) (fun E ce q9 u9 t9 H locs ht9 hp9 hb9 hz hP hS h1 h2 h3 => ?_) (fun u9 H locs hq hX hz hk hP hD hS => ?_)
  · have hD := hD.sub (ws' := [((xa 7), .inl (dA 4, 8, .inr (.inr (.inr (.inr (fun k => some (rm k))))))), (na_1, .inl (dA 0, 2, .inl (upd (upd (fun _ => 0) 0 t) 1 a)))]) [0, 1] (by decide) rfl
    have hP : va_P (dC, dI) vwCl [((xa 7), .inl (dA 4, 8, .inr (.inr (.inr (.inr (fun k => some (rm k))))))), (na_1, .inl (dA 0, 2, .inl (upd (upd (fun _ => 0) 0 t) 1 a)))] H := hP
    have hD : va_D A [((xa 7), .inl (dA 4, 8, .inr (.inr (.inr (.inr (fun k => some (rm k))))))), (na_1, .inl (dA 0, 2, .inl (upd (upd (fun _ => 0) 0 t) 1 a)))] := hD
    subst hb9
    subst hQe
    exact vx_outP hown hlocks (by rw [hxt]; exact (List.forall_mem_cons.mpr ⟨Or.inl (by decide), (fun _ h => nomatch h)⟩)) h1 h2 h3 (fun t10 e10 _ => ⟨(), trivial, (⟨Or.inl (⟨rfl, map_1 (rgs2.symm.trans hp9)⟩), by rw [e10]; exact hP.sub (ws' := [((xa 7), .inl (dA 4, 8, .inr (.inr (.inr (.inr (fun k => some (rm k)))))))]) [0] rfl⟩ : (_ ∧ _)), hS.F e10⟩) hS.2.2 (by first | decide | omega) (by first | decide | omega)
  have hrg : (rgB t && rgB a) = true := rgs2.symm.trans hq
  clear hq
  have hP : va_P (dC, dI) vwCl [((xa 7), .inl (dA 4, 8, .inr (.inr (.inr (.inr (fun k => some (rm k))))))), (na_1, .inl (dA 0, 2, .inl (upd (upd (fun _ => 0) 0 t) 1 a)))] H := hP
  have hD : va_D A [((xa 7), .inl (dA 4, 8, .inr (.inr (.inr (.inr (fun k => some (rm k))))))), (na_1, .inl (dA 0, 2, .inl (upd (upd (fun _ => 0) 0 t) 1 a)))] := hD
  have hP0 := hP.sub (ws' := [((xa 7), .inl (dA 4, 8, .inr (.inr (.inr (.inr (fun k => some (rm k)))))))]) [0] rfl
  have hD0 := hD.sub (ws' := [((xa 7), .inl (dA 4, 8, .inr (.inr (.inr (.inr (fun k => some (rm k)))))))]) [0] (by decide) rfl
  have h8jt := inB_nat (by decide) (show inB t (nI 0) (nI 7) = true from (Bool.and_eq_true_iff.mp hrg).1)
  have h8ja := inB_nat (by decide) (show inB a (nI 0) (nI 7) = true from (Bool.and_eq_true_iff.mp hrg).2)
  obtain ⟨jt, h9jt, e8jt⟩ := h8jt
  obtain ⟨ja, h9ja, e8ja⟩ := h8ja
  have h7jt : jt < 8 := by omega
  subst e8jt
  have h7ja : ja < 8 := by omega
  subst e8ja
  have hP := hP0
  have hD := hD0
  refine lv_aload_n hx hb dX1_map_14 rfl (lv_at hl 0 rfl) ?_
  refine lv_iload_n hx hb dX1_map_15 rfl (lv_at hl 3 rfl) ?_
  have hF9 := va_free (wc := []) hD hS (fun q h => hA q h) [] rfl
  refine x_v (wc := []) (wr := [((xa 7), .inl (dA 4, 8, .inr (.inr (.inr (.inr (fun k => some (rm k)))))))]) (vx_runV (As := [.int f9]) (rest := []) ⟨hx, hb, hml, hown, hts⟩ (x1_images Z (va_A [] H.size) H.size (fun q h => Or.inr h) Y xa tl ec ep ga sg sr p0 q0 r0 rm rr Ms f9 sR pR) (cwV 1 hts (lw_V q911 q913 qs8 q96 q914) rfl rfl rfl (by decide +kernel) ⟨Nat.le_of_ble_eq_true rfl, Nat.le_of_ble_eq_true rfl⟩) (gP_V (va_recv hK (hR0.up hS) (ci := 3) (q0 := 0) rfl rfl) hG hS (fun q _ h => hF9 q h) ⟨rfl, (hR0.to hS (fun q _ h => hF9 q h)), (RO.beside (wr := [((xa 7), .inl (dA 4, 8, .inr (.inr (.inr (.inr (fun k => some (rm k)))))))]) hP hD [] [0] rfl rfl (by decide)), (hAG.to hS (fun q _ h => hF9 q h)), (hRG.to hS (fun q _ h => hF9 q h))⟩) rfl rfl hl.1 rfl (lv_room (Nat.le_of_ble_eq_true rfl)) dX1_map_16 ⟨by first | decide | omega | (show _ ≤ (600 : Nat); omega), by first | decide | omega | (show _ ≤ (10000 : Nat); omega)⟩) hP hD hS hA [] [0] rfl rfl (by decide) (by decide) (fun E ce q9 u9 t9 H locs ht9 hp9 hb9 hz hP hS h1 h2 h3 => ?_) (fun u9 H locs hq hX hz hk hP hD hS => ?_)
  · have hD := hD.sub (ws' := [((xa 7), .inl (dA 4, 8, .inr (.inr (.inr (.inr (fun k => some (rm k)))))))]) [0] (by decide) rfl
    have hP : va_P (dC, dI) vwCl [((xa 7), .inl (dA 4, 8, .inr (.inr (.inr (.inr (fun k => some (rm k)))))))] H := hP
    have hD : va_D A [((xa 7), .inl (dA 4, 8, .inr (.inr (.inr (.inr (fun k => some (rm k)))))))] := hD
    rcases hb9 with ⟨rfl, hbi⟩ | ⟨rfl, hbi⟩
    · subst hQe
      exact vx_outP hown hlocks (by rw [hxt]; exact (List.forall_mem_cons.mpr ⟨Or.inl (by decide), (fun _ h => nomatch h)⟩)) h1 h2 h3 (fun t10 e10 _ => ⟨(), trivial, (⟨Or.inl (⟨rfl, map_2 h7jt h7ja hbi⟩), by rw [e10]; exact hP.sub (ws' := [((xa 7), .inl (dA 4, 8, .inr (.inr (.inr (.inr (fun k => some (rm k)))))))]) [0] rfl⟩ : (_ ∧ _)), hS.F e10⟩) hS.2.2 (by first | decide | omega) (by first | decide | omega)
    · subst hQe
      exact vx_outP hown hlocks (by rw [hxt]; exact (List.forall_mem_cons.mpr ⟨Or.inl (by decide), (fun _ h => nomatch h)⟩)) h1 h2 h3 (fun t10 e10 _ => ⟨(), trivial, (⟨Or.inr (Or.inl (⟨rfl, map_3 h7jt h7ja hbi⟩)), by rw [e10]; exact hP.sub (ws' := [((xa 7), .inl (dA 4, 8, .inr (.inr (.inr (.inr (fun k => some (rm k)))))))]) [0] rfl⟩ : (_ ∧ _)), hS.F e10⟩) hS.2.2 (by first | decide | omega) (by first | decide | omega)
  have himg := hq
  clear hq
  have hP : va_P (dC, dI) vwCl [((xa 7), .inl (dA 4, 8, .inr (.inr (.inr (.inr (fun k => some (rm k)))))))] H := hP
  have hD : va_D A [((xa 7), .inl (dA 4, 8, .inr (.inr (.inr (.inr (fun k => some (rm k)))))))] := hD
  obtain ⟨-, hin9, hvs9⟩ := wm_ok himg
  obtain ⟨jf, h9jf, e8jf⟩ := inB_nat (by omega) hin9
  rw [e8jf, clp (by omega)] at hvs9
  have himg0 := himg
  rw [e8jf] at himg0
  have hP0 := hP
  have hD0 := hD
  subst e8jf
  have hP := hP0
  have hD := hD0
  refine lv_aload_n hx hb dX1_map_19 rfl (lv_at hl 0 rfl) ?_
  refine lv_iload_n hx hb dX1_map_20 rfl (lv_at hl 1 rfl) ?_
  refine lv_aload_n hx hb dX1_map_21 rfl (lv_at hl 0 rfl) ?_
  refine lv_aload_n hx hb dX1_map_22 rfl (lv_at hl 0 rfl) ?_
  refine va_get (D := (dC, dI)) (ci := 3) (v := .ref (xa 3)) (C := RX1) (T := TX1) (N := 9) hx hb hts in_X1 hown hK (hR0.up hS) 0 rfl rfl 2 (by decide) (hts _ q286) (fun _ h9 => h9) rfl dX1_map_23 ?_
  refine va_getN (D := (dC, dI)) (ci := 4) (v := .ref (xa 7)) (C := RX4) (T := TX4) (N := 2) hx hb hts in_X4 hown hK (hR0.up hS) 1 rfl rfl 1 (by decide) (((va_Nw.warmF hG.1 (va_Nw.of rfl (Z.2.1 _ q243)))).use rfl) (fun _ h9 => h9) rfl dX1_map_26 ?_
  refine lv_iload_n hx hb dX1_map_29 rfl (lv_at hl 2 rfl) ?_
  refine a_aldq hx hb hK hP 0 4 rfl rfl (by omega) (by decide) dX1_map_30 ?_
  refine e_v (y := .ref (rm ja)) (rfl) ?_
  have hR2 := hRG ja (by omega)
  refine lv_iload_n hx hb dX1_map_31 rfl (lv_at hl 3 rfl) ?_
  rcases (show nxF (Ms ja) 0 = 32 ∨ nxF (Ms ja) 0 < 32 by have := (nx_le (M := Ms ja) (i := 0) (by decide)).2; omega) with hlz | hlz
  · have hR3 := hG.RO (SS.zero Y).2
    have hF9 := va_free (wc := []) hD hS (fun q h => hA q h) [] rfl
    refine c_r (wr := [((xa 7), .inl (dA 4, 8, .inr (.inr (.inr (.inr (fun k => some (rm k)))))))]) (va_runV (As := [.ref (rm ja), .int (nI jf)]) (rest := [.int (nI jt), .ref (xa 0)]) ⟨hx, hb, hml, hown, hts⟩ (x1_mapped0 Z (va_A [] H.size) H.size (fun q h => Or.inr h) Y xa tl ec ep ga sg sr p0 q0 r0 rm rr Ms (rm ja) (rr ja) (Ms ja) jf sR (sR ja (by omega)) (pR ja (by omega)) (by omega) hlz) (cwV 2 hts (lw_V q919 q921 qs9 q96 q922) rfl rfl rfl (by decide +kernel) ⟨Nat.le_of_ble_eq_true rfl, Nat.le_of_ble_eq_true rfl⟩) (gP_V (va_recv hK (hR0.up hS) (ci := 3) (q0 := 0) rfl rfl) hG hS (fun q _ h => hF9 q h) ⟨rfl, (hR0.to hS (fun q _ h => hF9 q h)), (hR2.to hS (fun q _ h => hF9 q h)), (RO.beside (wr := [((xa 7), .inl (dA 4, 8, .inr (.inr (.inr (.inr (fun k => some (rm k)))))))]) hP hD [] [0] rfl rfl (by decide)), (hAG.to hS (fun q _ h => hF9 q h)), (hRG.to hS (fun q _ h => hF9 q h))⟩) rfl rfl hl.1 rfl (lv_room (Nat.le_of_ble_eq_true rfl)) dX1_map_32 ⟨by first | decide | omega | (show _ ≤ (600 : Nat); omega), by first | decide | omega | (show _ ≤ (10000 : Nat); omega)⟩) hP hD hS hA [] [0] rfl rfl (by decide) (by decide) (fun u9 ra9 H locs hq hX hz hk hP hD hS => ?_)
    obtain ⟨ra_2, rfl⟩ : ∃ z, z = ra9 := ⟨_, rfl⟩
    have hmz := hq
    subst hX
    have hP : va_P (dC, dI) vwCl [((xa 7), .inl (dA 4, 8, .inr (.inr (.inr (.inr (fun k => some (rm k)))))))] H := hP
    have hD : va_D A [((xa 7), .inl (dA 4, 8, .inr (.inr (.inr (.inr (fun k => some (rm k)))))))] := hD
    have hF9 := va_free (wc := [((xa 7), .inl (dA 4, 8, .inr (.inr (.inr (.inr (fun k => some (rm k)))))))]) hD hS (fun q h => hA q h) [0] rfl
    refine c_i (wr := []) (va_runV (As := [.int (nI jt), .ref (σ 1)]) (rest := []) ⟨hx, hb, hml, hown, hts⟩ (x1_store Z (va_A [((xa 7), .inl (dA 4, 8, .inr (.inr (.inr (.inr (fun k => some (rm k)))))))] H.size) H.size (fun q h => Or.inr h) Y xa tl ec ep ga (fun k => some (rm k)) jt (σ 1) (σ 2) (numM 0) (by omega)) (cwV 2 hts (lw_V q731 q733 qs6 q96 q734) rfl rfl rfl (by decide +kernel) ⟨Nat.le_of_ble_eq_true rfl, Nat.le_of_ble_eq_true rfl⟩) (gP_V (va_recv hK (hR0.up hS) (ci := 3) (q0 := 0) rfl rfl) hG hS (fun q _ h => hF9 q h) ⟨rfl, (hP.sub (ws' := [((xa 7), .inl (dA 4, 8, .inr (.inr (.inr (.inr (fun k => some (rm k)))))))]) [0] rfl), (hD.sub (ws' := [((xa 7), .inl (dA 4, 8, .inr (.inr (.inr (.inr (fun k => some (rm k)))))))]) [0] (by decide) rfl).self, (hR0.to hS (fun q _ h => hF9 q h)), (hR3.to hS (fun q _ h => hF9 q h))⟩) rfl rfl hl.1 rfl (lv_room (Nat.le_of_ble_eq_true rfl)) dX1_map_35 ⟨by first | decide | omega | (show _ ≤ (600 : Nat); omega), by first | decide | omega | (show _ ≤ (10000 : Nat); omega)⟩) hP hD hS hA [0] [] rfl rfl (by decide) (by decide) (fun r9 u9 H locs hq hX hz hk hP hD hS => ?_)
    obtain ⟨r_3, rfl⟩ : ∃ z, z = r9 := ⟨_, rfl⟩
    subst hq
    have hP : va_P (dC, dI) vwCl [((xa 7), .inl (dA 4, 8, .inr (.inr (.inr (.inr (va_up (fun k => some (rm k)) jt (some (σ 1))))))))] H := hP
    have hD : va_D A [((xa 7), .inl (dA 4, 8, .inr (.inr (.inr (.inr (va_up (fun k => some (rm k)) jt (some (σ 1))))))))] := hD
    have e8 : rg (nI jt) = jt := rg_n (by omega)
    subst hQe
    refine vx_ret ?_
    refine W.widen (k := 600) (n := 10000) (by first | decide | omega) (by first | decide | omega) ?_
    exact W.iret (v := nI (trmS (numM 0))) hx hb hr (fun tz ht hW => ⟨⟨_, ((σ 1), (σ 2), (numM 0)), rfl, ⟨map_ok hn h7jt h7ja himg0 (pR ja (by omega)) (by omega) hmz, rfl⟩, B1_at ht (by rw [e8]; exact hP.sub [0] rfl) (by rw [e8]; exact hD.sub [0] (by decide) rfl) (⟨(hR3).up hS, Or.inr (Or.inr rfl)⟩)⟩, hS.F ht⟩) hS.2.2 dX1_map_38
  · have hF9 := va_free (wc := []) hD hS (fun q h => hA q h) [] rfl
    refine x_r (wc := []) (wr := [((xa 7), .inl (dA 4, 8, .inr (.inr (.inr (.inr (fun k => some (rm k)))))))]) (vx_runV (As := [.ref (rm ja), .int (nI jf)]) (rest := [.int (nI jt), .ref (xa 0)]) ⟨hx, hb, hml, hown, hts⟩ (x1_mapped Z (va_A [] H.size) H.size (fun q h => Or.inr h) Y xa tl ec ep ga sg sr p0 q0 r0 rm rr Ms (rm ja) (rr ja) (Ms ja) jf sR (sR ja (by omega)) (pR ja (by omega)) (by omega) hlz) (cwV 2 hts (lw_V q919 q921 qs9 q96 q922) rfl rfl rfl (by decide +kernel) ⟨Nat.le_of_ble_eq_true rfl, Nat.le_of_ble_eq_true rfl⟩) (gP_V (va_recv hK (hR0.up hS) (ci := 3) (q0 := 0) rfl rfl) hG hS (fun q _ h => hF9 q h) ⟨rfl, (hR0.to hS (fun q _ h => hF9 q h)), (hR2.to hS (fun q _ h => hF9 q h)), (RO.beside (wr := [((xa 7), .inl (dA 4, 8, .inr (.inr (.inr (.inr (fun k => some (rm k)))))))]) hP hD [] [0] rfl rfl (by decide)), (hAG.to hS (fun q _ h => hF9 q h)), (hRG.to hS (fun q _ h => hF9 q h))⟩) rfl rfl hl.1 rfl (lv_room (Nat.le_of_ble_eq_true rfl)) dX1_map_32 ⟨by first | decide | omega | (show _ ≤ (600 : Nat); omega), by first | decide | omega | (show _ ≤ (10000 : Nat); omega)⟩) hP hD hS hA [] [0] rfl rfl (by decide) (by decide) (fun E ce q9 u9 t9 H locs ht9 hp9 hb9 hz hP hS h1 h2 h3 => ?_) (fun u9 ra9 H locs hq hX hz hk hP hD hS => ?_)
    · have hD := hD.sub (ws' := [((xa 7), .inl (dA 4, 8, .inr (.inr (.inr (.inr (fun k => some (rm k)))))))]) [0] (by decide) rfl
      have hP : va_P (dC, dI) vwCl [((xa 7), .inl (dA 4, 8, .inr (.inr (.inr (.inr (fun k => some (rm k)))))))] H := hP
      have hD : va_D A [((xa 7), .inl (dA 4, 8, .inr (.inr (.inr (.inr (fun k => some (rm k)))))))] := hD
      subst hb9
      refine vx_catch (name := "BladeAlgebra$Unfit") (E := "BladeAlgebra$Unfit") (ce := ce) hown [] ⟨19, 38, 39, 179⟩ [] hxt (fun _ h => nomatch h) (by decide) (by decide) (hts _ q468) (castZ Z hG q523) h1 h2 h3 ?_
      have hpU := hp9
      refine lv_astore (lv' := [(4, .ref q9), (0, .ref (xa 0)), (1, .int (nI jt)), (2, .int (nI ja)), (3, .int (nI jf))]) hx hb dX1_map_39 hl (by decide) rfl (fun ls hl => ?_)
      have hF9 := va_free (wc := []) hD hS (fun q h => hA q h) [] rfl
      refine c_r (wr := [((xa 7), .inl (dA 4, 8, .inr (.inr (.inr (.inr (fun k => some (rm k)))))))]) (va_runS (As := []) (rest := []) ⟨hx, hb, hml, hown, hts⟩ (x1_large Z (va_A [] H.size) H.size (fun q h => Or.inr h) Y) (va_cwS 0 hts (lw_S q562 q563 q96 q564) rfl rfl rfl (by decide +kernel) ⟨Nat.le_of_ble_eq_true rfl, Nat.le_of_ble_eq_true rfl⟩) (gP_S hG hS (fun q _ h => hF9 q h) rfl) rfl rfl hl.1 rfl (lv_room (Nat.le_of_ble_eq_true rfl)) dX1_map_41 ⟨by first | decide | omega | (show _ ≤ (600 : Nat); omega), by first | decide | omega | (show _ ≤ (10000 : Nat); omega)⟩) hP hD hS hA [] [0] rfl rfl (by decide) (by decide) (fun u9 ra9 H locs hq hX hz hk hP hD hS => ?_)
      obtain ⟨ra_4, rfl⟩ : ∃ z, z = ra9 := ⟨_, rfl⟩
      have hP : va_P (dC, dI) vwCl [((xa 7), .inl (dA 4, 8, .inr (.inr (.inr (.inr (fun k => some (rm k))))))), (ra_4, .inr (17, []))] H := hP
      have hD : va_D A [((xa 7), .inl (dA 4, 8, .inr (.inr (.inr (.inr (fun k => some (rm k))))))), (ra_4, .inr (17, []))] := hD
      refine vx_athrow hx hb dX1_map_44 ?_
      obtain ⟨ce, h1, h2, h3⟩ := va_thr hK hP (ci := 17) (q0 := 1) rfl rfl
      subst hQe
      exact vx_outP hown hlocks (by rw [hxt]; exact (List.forall_mem_cons.mpr ⟨Or.inl (by decide), (fun _ h => nomatch h)⟩)) h1 h2 h3 (fun t10 e10 _ => ⟨(), trivial, (⟨Or.inr (Or.inr (⟨rfl, map_x hn h7jt h7ja himg0 (pR ja (by omega)) (by omega) hpU⟩)), by rw [e10]; exact hP.sub (ws' := [((xa 7), .inl (dA 4, 8, .inr (.inr (.inr (.inr (fun k => some (rm k)))))))]) [0] rfl⟩ : (_ ∧ _)), hS.F e10⟩) hS.2.2 (by first | decide | omega) (by first | decide | omega)
    obtain ⟨ra_5, rfl⟩ : ∃ z, z = ra9 := ⟨_, rfl⟩
    obtain ⟨mr_5, M_5⟩ := u9
    have e_5 := hq
    have sm_5 : MSm M_5 := mpS_sm (sR ja (by omega)) sR (by omega) 32 (Nat.le_refl _) _ e_5
    clear hq
    have hP : va_P (dC, dI) vwCl [((xa 7), .inl (dA 4, 8, .inr (.inr (.inr (.inr (fun k => some (rm k))))))), (ra_5, .inr (0, [.ref mr_5, .long (M_5 0)])), (mr_5, .inl (dA 1, 32, .inr (.inl (fun j => M_5 (j + 1)))))] H := hP
    have hD : va_D A [((xa 7), .inl (dA 4, 8, .inr (.inr (.inr (.inr (fun k => some (rm k))))))), (ra_5, .inr (0, [.ref mr_5, .long (M_5 0)])), (mr_5, .inl (dA 1, 32, .inr (.inl (fun j => M_5 (j + 1)))))] := hD
    have hF9 := va_free (wc := [((xa 7), .inl (dA 4, 8, .inr (.inr (.inr (.inr (fun k => some (rm k)))))))]) hD hS (fun q h => hA q h) [0] rfl
    refine c_i (wr := [(ra_5, .inr (0, [.ref mr_5, .long (M_5 0)])), (mr_5, .inl (dA 1, 32, .inr (.inl (fun j => M_5 (j + 1)))))]) (va_runV (As := [.int (nI jt), .ref ra_5]) (rest := []) ⟨hx, hb, hml, hown, hts⟩ (x1_store Z (va_A [((xa 7), .inl (dA 4, 8, .inr (.inr (.inr (.inr (fun k => some (rm k)))))))] H.size) H.size (fun q h => Or.inr h) Y xa tl ec ep ga (fun k => some (rm k)) jt ra_5 mr_5 M_5 (by omega)) (cwV 2 hts (lw_V q731 q733 qs6 q96 q734) rfl rfl rfl (by decide +kernel) ⟨Nat.le_of_ble_eq_true rfl, Nat.le_of_ble_eq_true rfl⟩) (gP_V (va_recv hK (hR0.up hS) (ci := 3) (q0 := 0) rfl rfl) hG hS (fun q _ h => hF9 q h) ⟨rfl, (hP.sub (ws' := [((xa 7), .inl (dA 4, 8, .inr (.inr (.inr (.inr (fun k => some (rm k)))))))]) [0] rfl), (hD.sub (ws' := [((xa 7), .inl (dA 4, 8, .inr (.inr (.inr (.inr (fun k => some (rm k)))))))]) [0] (by decide) rfl).self, (hR0.to hS (fun q _ h => hF9 q h)), (RO.beside (wr := [(ra_5, .inr (0, [.ref mr_5, .long (M_5 0)])), (mr_5, .inl (dA 1, 32, .inr (.inl (fun j => M_5 (j + 1)))))]) hP hD [0] [1, 2] rfl rfl (by decide))⟩) rfl rfl hl.1 rfl (lv_room (Nat.le_of_ble_eq_true rfl)) dX1_map_35 ⟨by first | decide | omega | (show _ ≤ (600 : Nat); omega), by first | decide | omega | (show _ ≤ (10000 : Nat); omega)⟩) hP hD hS hA [0] [1, 2] rfl rfl (by decide) (by decide) (fun r9 u9 H locs hq hX hz hk hP hD hS => ?_)
    obtain ⟨r_6, rfl⟩ : ∃ z, z = r9 := ⟨_, rfl⟩
    subst hq
    have hP : va_P (dC, dI) vwCl [(ra_5, .inr (0, [.ref mr_5, .long (M_5 0)])), (mr_5, .inl (dA 1, 32, .inr (.inl (fun j => M_5 (j + 1))))), ((xa 7), .inl (dA 4, 8, .inr (.inr (.inr (.inr (va_up (fun k => some (rm k)) jt (some ra_5)))))))] H := hP
    have hD : va_D A [(ra_5, .inr (0, [.ref mr_5, .long (M_5 0)])), (mr_5, .inl (dA 1, 32, .inr (.inl (fun j => M_5 (j + 1))))), ((xa 7), .inl (dA 4, 8, .inr (.inr (.inr (.inr (va_up (fun k => some (rm k)) jt (some ra_5)))))))] := hD
    have e8 : rg (nI jt) = jt := rg_n (by omega)
    subst hQe
    refine vx_ret ?_
    refine W.widen (k := 600) (n := 10000) (by first | decide | omega) (by first | decide | omega) ?_
    exact W.iret (v := nI (trmS M_5)) hx hb hr (fun tz ht hW => ⟨⟨_, (ra_5, mr_5, M_5), rfl, ⟨map_ok hn h7jt h7ja himg0 (pR ja (by omega)) (by omega) e_5, rfl⟩, B1_at ht (by rw [e8]; exact hP.sub [2] rfl) (by rw [e8]; exact hD.sub [2] (by decide) rfl) (⟨hP.sub [0, 1] rfl, Or.inl ⟨fresh_of hD hAf 2 0 rfl rfl (by decide), fresh_of hD hAf 2 1 rfl rfl (by decide)⟩⟩)⟩, hS.F ht⟩) hS.2.2 dX1_map_38
set_option maxHeartbeats 4000000 in
theorem x1_determinant {l : Launch} {dC : Nat → ClassId} {dI : Nat → Nat → Nat} {dA : Nat → ClassId} {s0 : State} {b0 : Addr} (Z : Z0 l dC dI dA s0 b0) (A : Nat → Prop) (sz : Nat) (hA : ∀ q : Nat, sz ≤ q → A q) {σ : Nat → Nat} (Y : SS (dC, dI) dA σ s0) (xa : Nat → Nat) (tl : Nat) (ec ep : Int32) (ga sg : Nat) (sr : Nat → Nat) (p0 q0 r0 : Nat) (rm rr : Nat → Nat) (Ms : Nat → MV) (t f9 : Int32) (sR : ∀ k, k < 8 → MSm (Ms k)) (pR : ∀ k, k < 8 → MSp (2 ^ (p0 + q0 + r0)) (Ms k)) (hAf : ∀ q, A q → q = xa 7 ∨ sz ≤ q) : vx_Met l yX1_determinant (wsW_ yX1_determinant cX1_determinant 4 (some .int) [((15 : Nat), (64 : Nat), (65 : Nat), (179 : Nat))]) ({ frames := 10, cells := 600, slots := 10200, locals := 600 } : Room) (gP [.ref (xa 0), .int t, .int f9] s0 A (fun H => H.size = sz ∧ va_P (dC, dI) vwCl [((xa 7), .inl (dA 4, 8, .inr (.inr (.inr (.inr (fun k => some (rm k)))))))] H ∧ va_D A [((xa 7), .inl (dA 4, 8, .inr (.inr (.inr (.inr (fun k => some (rm k)))))))] ∧ RO A (dC, dI) [((xa 0), .inr (3, xFs xa tl ec ep)), ((xa 3), .inr (4, [.ref ga, .ref (xa 7)]))] H ∧ AG A (dC, dI) dA ga sg sr p0 q0 r0 H ∧ RG A (dC, dI) dA rm rr Ms H)) (va_Qi (S := Nat × Nat × MV) (fun r9 u => detX p0 q0 r0 Ms t f9 = (nI 0, some u.2.2) ∧ r9 = nI (trmS u.2.2)) (B1 (dC, dI) A (fun u => [(xa 7, .inl (dA 4, 8, .inr (.inr (.inr (.inr (va_up (fun k => some (rm k)) (rg t) (some u.1)))))))]) (fun u H => NM (dC, dI) dA σ rm rr Ms sz u H)) A) (vx_X (S := Unit) (fun _ => True) (fun _ E _ t9 => ((E = "java/lang/IndexOutOfBoundsException" ∧ detX p0 q0 r0 Ms t f9 = (nI 1, none)) ∨ (E = "java/lang/IllegalStateException" ∧ detX p0 q0 r0 Ms t f9 = (nI 2, none)) ∨ (E = "java/lang/ArithmeticException" ∧ detX p0 q0 r0 Ms t f9 = (nI 3, none))) ∧ va_P (dC, dI) vwCl [((xa 7), .inl (dA 4, 8, .inr (.inr (.inr (.inr (fun k => some (rm k)))))))] t9.heap) A) 600 10200 A := by
  refine vx_ofWH (cc := cX1_determinant) (maxL := 4) (ret := (some .int)) (by decide) rfl ?_
  intro p e s m args below meth c s₁ B hml hv
  obtain ⟨hav, hG, hsz, hP, hD, hR0, hAG, hRG⟩ := hv
  have hx := B.exec
  have hb := B.bytes
  have hr := B.returns
  have hts := atoms_spec (ws := (wsW_ yX1_determinant cX1_determinant 4 (some .int) [((15 : Nat), (64 : Nat), (65 : Nat), (179 : Nat))])) B.pre
  have hxt : c.exceptionTable.toList = [⟨15, 64, 65, 179⟩] := vx_table (x := yX1_determinant) (y := yX1_determinant) B (hts _ List.mem_cons_self)
  have hts : ∀ w ∈ lw_all, w.before _ s = true := fun w h => hts w (List.mem_cons_of_mem _ h)
  have hown : s.vm.findClass RX1 = some m.cls := findClass_of_methodNamed B.named
  have hlocks := B.notSynchronized
  have hK := hG.K Z
  subst hsz
  have hS : va_S A s.heap s.heap [] := va_S.rf
  have hl := lv_entry ([.ref (xa 0), .int t, .int f9]) (n := 4) (Nat.le_of_ble_eq_true rfl)
  rw [show entryFrame m args 4 = entryFrame m ([.ref (xa 0), .int t, .int f9] : List Value).toArray 4 from by rw [hav], lg_entry_eq]
  generalize (lg_sl ([.ref (xa 0), .int t, .int f9]) ++ List.replicate (4 - (lg_sl ([.ref (xa 0), .int t, .int f9])).length) Slot.unset).toArray = ls at hl ⊢
  have hl : lv_has ls 4 [(0, .ref (xa 0)), (1, .int t), (2, .int f9)] := hl
  generalize hQe : vx_MQ below _ _ _ s _ _ _ = Q
  change W p l e ({ frames := 10, cells := 600, slots := 10200, locals := 600 } : Room) s m args below meth c s.heap [] 0 0 Q (F0 m 0 ls [])
  have hn := hAG.1
  have h5 := pow5 hn
  have hR1 := hAG.2.1
  refine lv_iconst (v := nI 1) hx hb dX1_determinant_0 (by decide) ?_
  refine a_newa (D := (dC, dI)) (atype := .int) (N' := 1) (a0 := (1, .inl (fun _ => 0))) hx hb (hts _ q230) rfl hK hP hD hS hA 0 rfl (fun _ => ra_int) (fun _ => rfl) (by decide) (by decide) (by decide) (by first | decide | omega) (by first | decide | omega) dX1_determinant_1 (fun na_1 H locs hP hD hS => ?_)
  have hP : va_P (dC, dI) vwCl [((xa 7), .inl (dA 4, 8, .inr (.inr (.inr (.inr (fun k => some (rm k))))))), (na_1, .inl (dA 0, 1, .inl (fun _ => 0)))] H := hP
  have hD : va_D A [((xa 7), .inl (dA 4, 8, .inr (.inr (.inr (.inr (fun k => some (rm k))))))), (na_1, .inl (dA 0, 1, .inl (fun _ => 0)))] := hD
  refine lv_dup hx hb dX1_determinant_3 rfl ?_
  refine lv_iconst (v := nI 0) hx hb dX1_determinant_4 (by decide) ?_
  refine lv_iload_n hx hb dX1_determinant_5 rfl (lv_at hl 1 rfl) ?_
  refine a_iast hx hb hK hP hD hS 1 0 rfl rfl (by omega) (by omega) dX1_determinant_6 (fun H locs hP hD hS => ?_)
  have hP : va_P (dC, dI) vwCl [((xa 7), .inl (dA 4, 8, .inr (.inr (.inr (.inr (fun k => some (rm k))))))), (na_1, .inl (dA 0, 1, .inl (upd (fun _ => 0) 0 t)))] H := hP
  have hD : va_D A [((xa 7), .inl (dA 4, 8, .inr (.inr (.inr (.inr (fun k => some (rm k))))))), (na_1, .inl (dA 0, 1, .inl (upd (fun _ => 0) 0 t)))] := hD
  have hF9 := va_free (wc := []) hD hS (fun q h => hA q h) [] rfl
  refine x_v (wc := []) (wr := [((xa 7), .inl (dA 4, 8, .inr (.inr (.inr (.inr (fun k => some (rm k))))))), (na_1, .inl (dA 0, 1, .inl (upd (fun _ => 0) 0 t)))]) (vx_runS (As := [.ref na_1]) (rest := []) ⟨hx, hb, hml, hown, hts⟩ (x1_registers Z (va_A [] H.size) H.size (fun q h => Or.inr h) Y na_1 1 (upd (fun _ => 0) 0 t) (by decide)) (va_cwS 1 hts (lw_S q469 q470 q96 q471) rfl rfl rfl (by decide +kernel) ⟨Nat.le_of_ble_eq_true rfl, Nat.le_of_ble_eq_true rfl⟩) (gP_S hG hS (fun q _ h => hF9 q h) ⟨rfl, (RO.beside (wr := [(na_1, .inl (dA 0, 1, .inl (upd (fun _ => 0) 0 t)))]) hP hD [] [1] rfl rfl (by decide))⟩) rfl rfl hl.1 rfl (lv_room (Nat.le_of_ble_eq_true rfl)) dX1_determinant_7 ⟨by first | decide | omega | (show _ ≤ (600 : Nat); omega), by first | decide | omega | (show _ ≤ (10200 : Nat); omega)⟩) hP hD hS hA [] [0, 1] rfl rfl (by decide) (by decide) (fun E ce q9 u9 t9 H locs ht9 hp9 hb9 hz hP hS h1 h2 h3 => ?_) (fun u9 H locs hq hX hz hk hP hD hS => ?_)
  · have hD := hD.sub (ws' := [((xa 7), .inl (dA 4, 8, .inr (.inr (.inr (.inr (fun k => some (rm k))))))), (na_1, .inl (dA 0, 1, .inl (upd (fun _ => 0) 0 t)))]) [0, 1] (by decide) rfl
    have hP : va_P (dC, dI) vwCl [((xa 7), .inl (dA 4, 8, .inr (.inr (.inr (.inr (fun k => some (rm k))))))), (na_1, .inl (dA 0, 1, .inl (upd (fun _ => 0) 0 t)))] H := hP
    have hD : va_D A [((xa 7), .inl (dA 4, 8, .inr (.inr (.inr (.inr (fun k => some (rm k))))))), (na_1, .inl (dA 0, 1, .inl (upd (fun _ => 0) 0 t)))] := hD
    subst hb9
    subst hQe
    exact vx_outP hown hlocks (by rw [hxt]; exact (List.forall_mem_cons.mpr ⟨Or.inl (by decide), (fun _ h => nomatch h)⟩)) h1 h2 h3 (fun t10 e10 _ => ⟨(), trivial, (⟨Or.inl (⟨rfl, det_1 (rgs1.symm.trans hp9)⟩), by rw [e10]; exact hP.sub (ws' := [((xa 7), .inl (dA 4, 8, .inr (.inr (.inr (.inr (fun k => some (rm k)))))))]) [0] rfl⟩ : (_ ∧ _)), hS.F e10⟩) hS.2.2 (by first | decide | omega) (by first | decide | omega)
  have hrg : (rgB t) = true := rgs1.symm.trans hq
  clear hq
  have hP : va_P (dC, dI) vwCl [((xa 7), .inl (dA 4, 8, .inr (.inr (.inr (.inr (fun k => some (rm k))))))), (na_1, .inl (dA 0, 1, .inl (upd (fun _ => 0) 0 t)))] H := hP
  have hD : va_D A [((xa 7), .inl (dA 4, 8, .inr (.inr (.inr (.inr (fun k => some (rm k))))))), (na_1, .inl (dA 0, 1, .inl (upd (fun _ => 0) 0 t)))] := hD
  have hP0 := hP.sub (ws' := [((xa 7), .inl (dA 4, 8, .inr (.inr (.inr (.inr (fun k => some (rm k)))))))]) [0] rfl
  have hD0 := hD.sub (ws' := [((xa 7), .inl (dA 4, 8, .inr (.inr (.inr (.inr (fun k => some (rm k)))))))]) [0] (by decide) rfl
  have h8jt := inB_nat (by decide) (show inB t (nI 0) (nI 7) = true from hrg)
  obtain ⟨jt, h9jt, e8jt⟩ := h8jt
  have h7jt : jt < 8 := by omega
  subst e8jt
  have hP := hP0
  have hD := hD0
  refine lv_aload_n hx hb dX1_determinant_10 rfl (lv_at hl 0 rfl) ?_
  refine lv_iload_n hx hb dX1_determinant_11 rfl (lv_at hl 2 rfl) ?_
  have hF9 := va_free (wc := []) hD hS (fun q h => hA q h) [] rfl
  refine x_v (wc := []) (wr := [((xa 7), .inl (dA 4, 8, .inr (.inr (.inr (.inr (fun k => some (rm k)))))))]) (vx_runV (As := [.int f9]) (rest := []) ⟨hx, hb, hml, hown, hts⟩ (x1_images Z (va_A [] H.size) H.size (fun q h => Or.inr h) Y xa tl ec ep ga sg sr p0 q0 r0 rm rr Ms f9 sR pR) (cwV 1 hts (lw_V q911 q913 qs8 q96 q914) rfl rfl rfl (by decide +kernel) ⟨Nat.le_of_ble_eq_true rfl, Nat.le_of_ble_eq_true rfl⟩) (gP_V (va_recv hK (hR0.up hS) (ci := 3) (q0 := 0) rfl rfl) hG hS (fun q _ h => hF9 q h) ⟨rfl, (hR0.to hS (fun q _ h => hF9 q h)), (RO.beside (wr := [((xa 7), .inl (dA 4, 8, .inr (.inr (.inr (.inr (fun k => some (rm k)))))))]) hP hD [] [0] rfl rfl (by decide)), (hAG.to hS (fun q _ h => hF9 q h)), (hRG.to hS (fun q _ h => hF9 q h))⟩) rfl rfl hl.1 rfl (lv_room (Nat.le_of_ble_eq_true rfl)) dX1_determinant_12 ⟨by first | decide | omega | (show _ ≤ (600 : Nat); omega), by first | decide | omega | (show _ ≤ (10200 : Nat); omega)⟩) hP hD hS hA [] [0] rfl rfl (by decide) (by decide) (fun E ce q9 u9 t9 H locs ht9 hp9 hb9 hz hP hS h1 h2 h3 => ?_) (fun u9 H locs hq hX hz hk hP hD hS => ?_)
  · have hD := hD.sub (ws' := [((xa 7), .inl (dA 4, 8, .inr (.inr (.inr (.inr (fun k => some (rm k)))))))]) [0] (by decide) rfl
    have hP : va_P (dC, dI) vwCl [((xa 7), .inl (dA 4, 8, .inr (.inr (.inr (.inr (fun k => some (rm k)))))))] H := hP
    have hD : va_D A [((xa 7), .inl (dA 4, 8, .inr (.inr (.inr (.inr (fun k => some (rm k)))))))] := hD
    rcases hb9 with ⟨rfl, hbi⟩ | ⟨rfl, hbi⟩
    · subst hQe
      exact vx_outP hown hlocks (by rw [hxt]; exact (List.forall_mem_cons.mpr ⟨Or.inl (by decide), (fun _ h => nomatch h)⟩)) h1 h2 h3 (fun t10 e10 _ => ⟨(), trivial, (⟨Or.inl (⟨rfl, det_2 h7jt hbi⟩), by rw [e10]; exact hP.sub (ws' := [((xa 7), .inl (dA 4, 8, .inr (.inr (.inr (.inr (fun k => some (rm k)))))))]) [0] rfl⟩ : (_ ∧ _)), hS.F e10⟩) hS.2.2 (by first | decide | omega) (by first | decide | omega)
    · subst hQe
      exact vx_outP hown hlocks (by rw [hxt]; exact (List.forall_mem_cons.mpr ⟨Or.inl (by decide), (fun _ h => nomatch h)⟩)) h1 h2 h3 (fun t10 e10 _ => ⟨(), trivial, (⟨Or.inr (Or.inl (⟨rfl, det_3 h7jt hbi⟩)), by rw [e10]; exact hP.sub (ws' := [((xa 7), .inl (dA 4, 8, .inr (.inr (.inr (.inr (fun k => some (rm k)))))))]) [0] rfl⟩ : (_ ∧ _)), hS.F e10⟩) hS.2.2 (by first | decide | omega) (by first | decide | omega)
  have himg := hq
  clear hq
  have hP : va_P (dC, dI) vwCl [((xa 7), .inl (dA 4, 8, .inr (.inr (.inr (.inr (fun k => some (rm k)))))))] H := hP
  have hD : va_D A [((xa 7), .inl (dA 4, 8, .inr (.inr (.inr (.inr (fun k => some (rm k)))))))] := hD
  obtain ⟨-, hin9, hvs9⟩ := wm_ok himg
  obtain ⟨jf, h9jf, e8jf⟩ := inB_nat (by omega) hin9
  rw [e8jf, clp (by omega)] at hvs9
  have himg0 := himg
  rw [e8jf] at himg0
  have hP0 := hP
  have hD0 := hD
  subst e8jf
  have hP := hP0
  have hD := hD0
  refine lv_aload_n hx hb dX1_determinant_15 rfl (lv_at hl 0 rfl) ?_
  refine lv_aload_n hx hb dX1_determinant_16 rfl (lv_at hl 0 rfl) ?_
  refine va_get (D := (dC, dI)) (ci := 3) (v := .ref (xa 3)) (C := RX1) (T := TX1) (N := 9) hx hb hts in_X1 hown hK (hR0.up hS) 0 rfl rfl 2 (by decide) (hts _ q286) (fun _ h9 => h9) rfl dX1_determinant_17 ?_
  refine va_getN (D := (dC, dI)) (ci := 4) (v := .ref ga) (C := RX4) (T := TX4) (N := 2) hx hb hts in_X4 hown hK (hR0.up hS) 1 rfl rfl 0 (by decide) (((va_Nw.warmF hG.1 (va_Nw.of rfl (Z.2.1 _ q240)))).use rfl) (fun _ h9 => h9) rfl dX1_determinant_20 ?_
  refine va_getN (D := (dC, dI)) (ci := 1) (v := .int (nI (2 ^ (p0 + q0 + r0) - 1))) (C := RX5) (T := TX5) (N := 6) hx hb hts in_X5 hown hK (hR1.up hS) 0 rfl rfl 4 (by decide) (((va_Nw.warmF hG.1 (va_Nw.of rfl (Z.2.1 _ q212)))).use rfl) (fun _ h9 => h9) rfl dX1_determinant_23 ?_
  refine lv_lconst (v := 1) hx hb dX1_determinant_26 rfl ?_
  refine lv_lconst (v := 1) hx hb dX1_determinant_27 rfl ?_
  have hF9 := va_free (wc := []) hD hS (fun q h => hA q h) [] rfl
  refine x_r (wc := []) (wr := [((xa 7), .inl (dA 4, 8, .inr (.inr (.inr (.inr (fun k => some (rm k)))))))]) (vx_runS (As := [.int (nI (2 ^ (p0 + q0 + r0) - 1)), .long 1, .long 1]) (rest := [.ref (xa 0)]) ⟨hx, hb, hml, hown, hts⟩ (x6_of Z (va_A [] H.size) H.size (fun q h => Or.inr h) Y (2 ^ (p0 + q0 + r0) - 1) 1 1 (by omega) (by decide) (by decide) (by decide)) (va_cwS 3 hts (lw_S q858 q819 q102 q820) rfl rfl rfl (by decide +kernel) ⟨Nat.le_of_ble_eq_true rfl, Nat.le_of_ble_eq_true rfl⟩) (gP_S hG hS (fun q _ h => hF9 q h) rfl) rfl rfl hl.1 rfl (lv_room (Nat.le_of_ble_eq_true rfl)) dX1_determinant_28 ⟨by first | decide | omega | (show _ ≤ (600 : Nat); omega), by first | decide | omega | (show _ ≤ (10200 : Nat); omega)⟩) hP hD hS hA [] [0] rfl rfl (by decide) (by decide) (fun E ce q9 u9 t9 H locs ht9 hp9 hb9 hz hP hS h1 h2 h3 => ?_) (fun u9 ra9 H locs hq hX hz hk hP hD hS => ?_)
  · have hD := hD.sub (ws' := [((xa 7), .inl (dA 4, 8, .inr (.inr (.inr (.inr (fun k => some (rm k)))))))]) [0] (by decide) rfl
    have hP : va_P (dC, dI) vwCl [((xa 7), .inl (dA 4, 8, .inr (.inr (.inr (.inr (fun k => some (rm k)))))))] H := hP
    have hD : va_D A [((xa 7), .inl (dA 4, 8, .inr (.inr (.inr (.inr (fun k => some (rm k)))))))] := hD
    subst hb9
    have h2n := Nat.two_pow_pos (p0 + q0 + r0)
    have h5n := pow5 hn
    rw [of_basM (by omega)] at hp9; cases hp9
  obtain ⟨ra_2, rfl⟩ : ∃ z, z = ra9 := ⟨_, rfl⟩
  obtain ⟨mr_2, M_2⟩ := u9
  have e_2 := hq
  have sm_2 : MSm M_2 := fitG_sm (by decide) (by decide) e_2
  clear hq
  have hP : va_P (dC, dI) vwCl [((xa 7), .inl (dA 4, 8, .inr (.inr (.inr (.inr (fun k => some (rm k))))))), (ra_2, .inr (0, [.ref mr_2, .long (M_2 0)])), (mr_2, .inl (dA 1, 32, .inr (.inl (fun j => M_2 (j + 1)))))] H := hP
  have hD : va_D A [((xa 7), .inl (dA 4, 8, .inr (.inr (.inr (.inr (fun k => some (rm k))))))), (ra_2, .inr (0, [.ref mr_2, .long (M_2 0)])), (mr_2, .inl (dA 1, 32, .inr (.inl (fun j => M_2 (j + 1)))))] := hD
  have h2n := Nat.two_pow_pos (p0 + q0 + r0)
  have h5n := pow5 hn
  obtain rfl : M_2 = basM (2 ^ (p0 + q0 + r0) - 1) := Option.some.inj (e_2.symm.trans (of_basM (by omega)))
  refine lv_iload_n hx hb dX1_determinant_31 rfl (lv_at hl 2 rfl) ?_
  have hF9 := va_free (wc := []) hD hS (fun q h => hA q h) [] rfl
  refine x_r (wc := []) (wr := [((xa 7), .inl (dA 4, 8, .inr (.inr (.inr (.inr (fun k => some (rm k))))))), (ra_2, .inr (0, [.ref mr_2, .long ((basM (2 ^ (p0 + q0 + r0) - 1)) 0)])), (mr_2, .inl (dA 1, 32, .inr (.inl (fun j => (basM (2 ^ (p0 + q0 + r0) - 1)) (j + 1)))))]) (vx_runV (As := [.ref ra_2, .int (nI jf)]) (rest := []) ⟨hx, hb, hml, hown, hts⟩ (x1_mapped Z (va_A [] H.size) H.size (fun q h => Or.inr h) Y xa tl ec ep ga sg sr p0 q0 r0 rm rr Ms ra_2 mr_2 (basM (2 ^ (p0 + q0 + r0) - 1)) jf sR sm_2 (basM_sp (by omega)) (by omega) (det_z (by omega))) (cwV 2 hts (lw_V q919 q921 qs9 q96 q922) rfl rfl rfl (by decide +kernel) ⟨Nat.le_of_ble_eq_true rfl, Nat.le_of_ble_eq_true rfl⟩) (gP_V (va_recv hK (hR0.up hS) (ci := 3) (q0 := 0) rfl rfl) hG hS (fun q _ h => hF9 q h) ⟨rfl, (hR0.to hS (fun q _ h => hF9 q h)), (RO.beside (wr := [(ra_2, .inr (0, [.ref mr_2, .long ((basM (2 ^ (p0 + q0 + r0) - 1)) 0)])), (mr_2, .inl (dA 1, 32, .inr (.inl (fun j => (basM (2 ^ (p0 + q0 + r0) - 1)) (j + 1)))))]) hP hD [] [1, 2] rfl rfl (by decide)), (RO.beside (wr := [((xa 7), .inl (dA 4, 8, .inr (.inr (.inr (.inr (fun k => some (rm k)))))))]) hP hD [] [0] rfl rfl (by decide)), (hAG.to hS (fun q _ h => hF9 q h)), (hRG.to hS (fun q _ h => hF9 q h))⟩) rfl rfl hl.1 rfl (lv_room (Nat.le_of_ble_eq_true rfl)) dX1_determinant_32 ⟨by first | decide | omega | (show _ ≤ (600 : Nat); omega), by first | decide | omega | (show _ ≤ (10200 : Nat); omega)⟩) hP hD hS hA [] [0, 1, 2] rfl rfl (by decide) (by decide) (fun E ce q9 u9 t9 H locs ht9 hp9 hb9 hz hP hS h1 h2 h3 => ?_) (fun u9 ra9 H locs hq hX hz hk hP hD hS => ?_)
  · have hD := hD.sub (ws' := [((xa 7), .inl (dA 4, 8, .inr (.inr (.inr (.inr (fun k => some (rm k))))))), (ra_2, .inr (0, [.ref mr_2, .long ((basM (2 ^ (p0 + q0 + r0) - 1)) 0)])), (mr_2, .inl (dA 1, 32, .inr (.inl (fun j => (basM (2 ^ (p0 + q0 + r0) - 1)) (j + 1)))))]) [0, 1, 2] (by decide) rfl
    have hP : va_P (dC, dI) vwCl [((xa 7), .inl (dA 4, 8, .inr (.inr (.inr (.inr (fun k => some (rm k))))))), (ra_2, .inr (0, [.ref mr_2, .long ((basM (2 ^ (p0 + q0 + r0) - 1)) 0)])), (mr_2, .inl (dA 1, 32, .inr (.inl (fun j => (basM (2 ^ (p0 + q0 + r0) - 1)) (j + 1)))))] H := hP
    have hD : va_D A [((xa 7), .inl (dA 4, 8, .inr (.inr (.inr (.inr (fun k => some (rm k))))))), (ra_2, .inr (0, [.ref mr_2, .long ((basM (2 ^ (p0 + q0 + r0) - 1)) 0)])), (mr_2, .inl (dA 1, 32, .inr (.inl (fun j => (basM (2 ^ (p0 + q0 + r0) - 1)) (j + 1)))))] := hD
    subst hb9
    refine vx_catch (name := "BladeAlgebra$Unfit") (E := "BladeAlgebra$Unfit") (ce := ce) hown [] ⟨15, 64, 65, 179⟩ [] hxt (fun _ h => nomatch h) (by decide) (by decide) (hts _ q468) (castZ Z hG q523) h1 h2 h3 ?_
    have hpU := hp9
    refine lv_astore_n (lv' := [(3, .ref q9), (0, .ref (xa 0)), (1, .int (nI jt)), (2, .int (nI jf))]) hx hb dX1_determinant_65 rfl hl (by decide) rfl (fun ls hl => ?_)
    have hF9 := va_free (wc := []) hD hS (fun q h => hA q h) [] rfl
    refine c_r (wr := [((xa 7), .inl (dA 4, 8, .inr (.inr (.inr (.inr (fun k => some (rm k))))))), (ra_2, .inr (0, [.ref mr_2, .long ((basM (2 ^ (p0 + q0 + r0) - 1)) 0)])), (mr_2, .inl (dA 1, 32, .inr (.inl (fun j => (basM (2 ^ (p0 + q0 + r0) - 1)) (j + 1)))))]) (va_runS (As := []) (rest := []) ⟨hx, hb, hml, hown, hts⟩ (x1_large Z (va_A [] H.size) H.size (fun q h => Or.inr h) Y) (va_cwS 0 hts (lw_S q562 q563 q96 q564) rfl rfl rfl (by decide +kernel) ⟨Nat.le_of_ble_eq_true rfl, Nat.le_of_ble_eq_true rfl⟩) (gP_S hG hS (fun q _ h => hF9 q h) rfl) rfl rfl hl.1 rfl (lv_room (Nat.le_of_ble_eq_true rfl)) dX1_determinant_66 ⟨by first | decide | omega | (show _ ≤ (600 : Nat); omega), by first | decide | omega | (show _ ≤ (10200 : Nat); omega)⟩) hP hD hS hA [] [0, 1, 2] rfl rfl (by decide) (by decide) (fun u9 ra9 H locs hq hX hz hk hP hD hS => ?_)
    obtain ⟨ra_3, rfl⟩ : ∃ z, z = ra9 := ⟨_, rfl⟩
    have hP : va_P (dC, dI) vwCl [((xa 7), .inl (dA 4, 8, .inr (.inr (.inr (.inr (fun k => some (rm k))))))), (ra_2, .inr (0, [.ref mr_2, .long ((basM (2 ^ (p0 + q0 + r0) - 1)) 0)])), (mr_2, .inl (dA 1, 32, .inr (.inl (fun j => (basM (2 ^ (p0 + q0 + r0) - 1)) (j + 1))))), (ra_3, .inr (17, []))] H := hP
    have hD : va_D A [((xa 7), .inl (dA 4, 8, .inr (.inr (.inr (.inr (fun k => some (rm k))))))), (ra_2, .inr (0, [.ref mr_2, .long ((basM (2 ^ (p0 + q0 + r0) - 1)) 0)])), (mr_2, .inl (dA 1, 32, .inr (.inl (fun j => (basM (2 ^ (p0 + q0 + r0) - 1)) (j + 1))))), (ra_3, .inr (17, []))] := hD
    refine vx_athrow hx hb dX1_determinant_69 ?_
    obtain ⟨ce, h1, h2, h3⟩ := va_thr hK hP (ci := 17) (q0 := 3) rfl rfl
    subst hQe
    exact vx_outP hown hlocks (by rw [hxt]; exact (List.forall_mem_cons.mpr ⟨Or.inl (by decide), (fun _ h => nomatch h)⟩)) h1 h2 h3 (fun t10 e10 _ => ⟨(), trivial, (⟨Or.inr (Or.inr (⟨rfl, det_x h7jt himg0 (by omega) (det_m hn hpU)⟩)), by rw [e10]; exact hP.sub (ws' := [((xa 7), .inl (dA 4, 8, .inr (.inr (.inr (.inr (fun k => some (rm k)))))))]) [0] rfl⟩ : (_ ∧ _)), hS.F e10⟩) hS.2.2 (by first | decide | omega) (by first | decide | omega)
  obtain ⟨ra_4, rfl⟩ : ∃ z, z = ra9 := ⟨_, rfl⟩
  obtain ⟨mr_4, M_4⟩ := u9
  have e_4 := hq
  have sm_4 : MSm M_4 := mpS_sm sm_2 sR (by omega) 32 (Nat.le_refl _) _ e_4
  clear hq
  have hP : va_P (dC, dI) vwCl [((xa 7), .inl (dA 4, 8, .inr (.inr (.inr (.inr (fun k => some (rm k))))))), (ra_2, .inr (0, [.ref mr_2, .long ((basM (2 ^ (p0 + q0 + r0) - 1)) 0)])), (mr_2, .inl (dA 1, 32, .inr (.inl (fun j => (basM (2 ^ (p0 + q0 + r0) - 1)) (j + 1))))), (ra_4, .inr (0, [.ref mr_4, .long (M_4 0)])), (mr_4, .inl (dA 1, 32, .inr (.inl (fun j => M_4 (j + 1)))))] H := hP
  have hD : va_D A [((xa 7), .inl (dA 4, 8, .inr (.inr (.inr (.inr (fun k => some (rm k))))))), (ra_2, .inr (0, [.ref mr_2, .long ((basM (2 ^ (p0 + q0 + r0) - 1)) 0)])), (mr_2, .inl (dA 1, 32, .inr (.inl (fun j => (basM (2 ^ (p0 + q0 + r0) - 1)) (j + 1))))), (ra_4, .inr (0, [.ref mr_4, .long (M_4 0)])), (mr_4, .inl (dA 1, 32, .inr (.inl (fun j => M_4 (j + 1)))))] := hD
  refine lv_astore_n (lv' := [(3, .ref ra_4), (0, .ref (xa 0)), (1, .int (nI jt)), (2, .int (nI jf))]) hx hb dX1_determinant_35 rfl hl (by decide) rfl (fun ls hl => ?_)
  refine lv_aload_n hx hb dX1_determinant_36 rfl (lv_at hl 1 rfl) ?_
  refine lv_iload_n hx hb dX1_determinant_37 rfl (lv_at hl 2 rfl) ?_
  refine lv_iconst (v := nI 0) hx hb dX1_determinant_38 (by decide) ?_
  refine lv_aload_n hx hb dX1_determinant_39 rfl (lv_at hl 0 rfl) ?_
  refine va_getN (D := (dC, dI)) (ci := 0) (v := .ref mr_4) (C := RX6) (T := TX6) (N := 2) hx hb hts in_X6 hown hK hP 3 rfl rfl 0 (by decide) (((va_Nw.warmF hG.1 (va_Nw.of rfl (Z.2.1 _ q552)))).use rfl) (fun _ h9 => h9) rfl dX1_determinant_40 ?_
  refine lv_aload_n hx hb dX1_determinant_43 rfl (lv_at hl 1 rfl) ?_
  refine va_get (D := (dC, dI)) (ci := 3) (v := .ref (xa 3)) (C := RX1) (T := TX1) (N := 9) hx hb hts in_X1 hown hK (hR0.up hS) 0 rfl rfl 2 (by decide) (hts _ q286) (fun _ h9 => h9) rfl dX1_determinant_44 ?_
  refine va_getN (D := (dC, dI)) (ci := 4) (v := .ref ga) (C := RX4) (T := TX4) (N := 2) hx hb hts in_X4 hown hK (hR0.up hS) 1 rfl rfl 0 (by decide) (((va_Nw.warmF hG.1 (va_Nw.of rfl (Z.2.1 _ q240)))).use rfl) (fun _ h9 => h9) rfl dX1_determinant_47 ?_
  refine va_getN (D := (dC, dI)) (ci := 1) (v := .int (nI (2 ^ (p0 + q0 + r0) - 1))) (C := RX5) (T := TX5) (N := 6) hx hb hts in_X5 hown hK (hR1.up hS) 0 rfl rfl 4 (by decide) (((va_Nw.warmF hG.1 (va_Nw.of rfl (Z.2.1 _ q212)))).use rfl) (fun _ h9 => h9) rfl dX1_determinant_50 ?_
  refine a_lald hx hb hK hP 4 1 rfl rfl (by omega) (by omega) dX1_determinant_53 ?_
  refine lv_aload_n hx hb dX1_determinant_54 rfl (lv_at hl 0 rfl) ?_
  refine va_getN (D := (dC, dI)) (ci := 0) (v := .long (M_4 0)) (C := RX6) (T := TX6) (N := 2) hx hb hts in_X6 hown hK hP 3 rfl rfl 1 (by decide) (((va_Nw.warmF hG.1 (va_Nw.of rfl (Z.2.1 _ q556)))).use rfl) (fun _ h9 => h9) rfl dX1_determinant_55 ?_
  have hF9 := va_free (wc := []) hD hS (fun q h => hA q h) [] rfl
  refine x_r (wc := []) (wr := [((xa 7), .inl (dA 4, 8, .inr (.inr (.inr (.inr (fun k => some (rm k))))))), (ra_2, .inr (0, [.ref mr_2, .long ((basM (2 ^ (p0 + q0 + r0) - 1)) 0)])), (mr_2, .inl (dA 1, 32, .inr (.inl (fun j => (basM (2 ^ (p0 + q0 + r0) - 1)) (j + 1))))), (ra_4, .inr (0, [.ref mr_4, .long (M_4 0)])), (mr_4, .inl (dA 1, 32, .inr (.inl (fun j => M_4 (j + 1)))))]) (vx_runS (As := [.int (nI 0), .long ((fun j => M_4 (j + 1)) (2 ^ (p0 + q0 + r0) - 1)), .long (M_4 0)]) (rest := [.int (nI jt), .ref (xa 0)]) ⟨hx, hb, hml, hown, hts⟩ (x6_of Z (va_A [] H.size) H.size (fun q h => Or.inr h) Y 0 ((fun j => M_4 (j + 1)) (2 ^ (p0 + q0 + r0) - 1)) (M_4 0) (by omega) (ne_min_of (sm_4.c (j := 2 ^ (p0 + q0 + r0) - 1) (by omega)) (by decide)) (aN_pos sm_4.1) (nm_p sm_4.1)) (va_cwS 3 hts (lw_S q858 q819 q102 q820) rfl rfl rfl (by decide +kernel) ⟨Nat.le_of_ble_eq_true rfl, Nat.le_of_ble_eq_true rfl⟩) (gP_S hG hS (fun q _ h => hF9 q h) rfl) rfl rfl hl.1 rfl (lv_room (Nat.le_of_ble_eq_true rfl)) dX1_determinant_58 ⟨by first | decide | omega | (show _ ≤ (600 : Nat); omega), by first | decide | omega | (show _ ≤ (10200 : Nat); omega)⟩) hP hD hS hA [] [0, 1, 2, 3, 4] rfl rfl (by decide) (by decide) (fun E ce q9 u9 t9 H locs ht9 hp9 hb9 hz hP hS h1 h2 h3 => ?_) (fun u9 ra9 H locs hq hX hz hk hP hD hS => ?_)
  · have hD := hD.sub (ws' := [((xa 7), .inl (dA 4, 8, .inr (.inr (.inr (.inr (fun k => some (rm k))))))), (ra_2, .inr (0, [.ref mr_2, .long ((basM (2 ^ (p0 + q0 + r0) - 1)) 0)])), (mr_2, .inl (dA 1, 32, .inr (.inl (fun j => (basM (2 ^ (p0 + q0 + r0) - 1)) (j + 1))))), (ra_4, .inr (0, [.ref mr_4, .long (M_4 0)])), (mr_4, .inl (dA 1, 32, .inr (.inl (fun j => M_4 (j + 1)))))]) [0, 1, 2, 3, 4] (by decide) rfl
    have hP : va_P (dC, dI) vwCl [((xa 7), .inl (dA 4, 8, .inr (.inr (.inr (.inr (fun k => some (rm k))))))), (ra_2, .inr (0, [.ref mr_2, .long ((basM (2 ^ (p0 + q0 + r0) - 1)) 0)])), (mr_2, .inl (dA 1, 32, .inr (.inl (fun j => (basM (2 ^ (p0 + q0 + r0) - 1)) (j + 1))))), (ra_4, .inr (0, [.ref mr_4, .long (M_4 0)])), (mr_4, .inl (dA 1, 32, .inr (.inl (fun j => M_4 (j + 1)))))] H := hP
    have hD : va_D A [((xa 7), .inl (dA 4, 8, .inr (.inr (.inr (.inr (fun k => some (rm k))))))), (ra_2, .inr (0, [.ref mr_2, .long ((basM (2 ^ (p0 + q0 + r0) - 1)) 0)])), (mr_2, .inl (dA 1, 32, .inr (.inl (fun j => (basM (2 ^ (p0 + q0 + r0) - 1)) (j + 1))))), (ra_4, .inr (0, [.ref mr_4, .long (M_4 0)])), (mr_4, .inl (dA 1, 32, .inr (.inl (fun j => M_4 (j + 1)))))] := hD
    subst hb9
    rw [det_f sm_4 (by omega)] at hp9; cases hp9
  obtain ⟨ra_5, rfl⟩ : ∃ z, z = ra9 := ⟨_, rfl⟩
  obtain ⟨mr_5, M_5⟩ := u9
  have e_5 := hq
  have sm_5 : MSm M_5 := fitG_sm (aN_pos sm_4.1) (nm_p sm_4.1) e_5
  clear hq
  have hP : va_P (dC, dI) vwCl [((xa 7), .inl (dA 4, 8, .inr (.inr (.inr (.inr (fun k => some (rm k))))))), (ra_2, .inr (0, [.ref mr_2, .long ((basM (2 ^ (p0 + q0 + r0) - 1)) 0)])), (mr_2, .inl (dA 1, 32, .inr (.inl (fun j => (basM (2 ^ (p0 + q0 + r0) - 1)) (j + 1))))), (ra_4, .inr (0, [.ref mr_4, .long (M_4 0)])), (mr_4, .inl (dA 1, 32, .inr (.inl (fun j => M_4 (j + 1))))), (ra_5, .inr (0, [.ref mr_5, .long (M_5 0)])), (mr_5, .inl (dA 1, 32, .inr (.inl (fun j => M_5 (j + 1)))))] H := hP
  have hD : va_D A [((xa 7), .inl (dA 4, 8, .inr (.inr (.inr (.inr (fun k => some (rm k))))))), (ra_2, .inr (0, [.ref mr_2, .long ((basM (2 ^ (p0 + q0 + r0) - 1)) 0)])), (mr_2, .inl (dA 1, 32, .inr (.inl (fun j => (basM (2 ^ (p0 + q0 + r0) - 1)) (j + 1))))), (ra_4, .inr (0, [.ref mr_4, .long (M_4 0)])), (mr_4, .inl (dA 1, 32, .inr (.inl (fun j => M_4 (j + 1))))), (ra_5, .inr (0, [.ref mr_5, .long (M_5 0)])), (mr_5, .inl (dA 1, 32, .inr (.inl (fun j => M_5 (j + 1)))))] := hD
  obtain rfl : M_5 = redS (M_4 0) (detR M_4 (2 ^ (p0 + q0 + r0) - 1)) := Option.some.inj (e_5.symm.trans (det_f sm_4 (by omega)))
  have hF9 := va_free (wc := [((xa 7), .inl (dA 4, 8, .inr (.inr (.inr (.inr (fun k => some (rm k)))))))]) hD hS (fun q h => hA q h) [0] rfl
  refine c_i (wr := [(ra_2, .inr (0, [.ref mr_2, .long ((basM (2 ^ (p0 + q0 + r0) - 1)) 0)])), (mr_2, .inl (dA 1, 32, .inr (.inl (fun j => (basM (2 ^ (p0 + q0 + r0) - 1)) (j + 1))))), (ra_4, .inr (0, [.ref mr_4, .long (M_4 0)])), (mr_4, .inl (dA 1, 32, .inr (.inl (fun j => M_4 (j + 1))))), (ra_5, .inr (0, [.ref mr_5, .long ((redS (M_4 0) (detR M_4 (2 ^ (p0 + q0 + r0) - 1))) 0)])), (mr_5, .inl (dA 1, 32, .inr (.inl (fun j => (redS (M_4 0) (detR M_4 (2 ^ (p0 + q0 + r0) - 1))) (j + 1)))))]) (va_runV (As := [.int (nI jt), .ref ra_5]) (rest := []) ⟨hx, hb, hml, hown, hts⟩ (x1_store Z (va_A [((xa 7), .inl (dA 4, 8, .inr (.inr (.inr (.inr (fun k => some (rm k)))))))] H.size) H.size (fun q h => Or.inr h) Y xa tl ec ep ga (fun k => some (rm k)) jt ra_5 mr_5 (redS (M_4 0) (detR M_4 (2 ^ (p0 + q0 + r0) - 1))) (by omega)) (cwV 2 hts (lw_V q731 q733 qs6 q96 q734) rfl rfl rfl (by decide +kernel) ⟨Nat.le_of_ble_eq_true rfl, Nat.le_of_ble_eq_true rfl⟩) (gP_V (va_recv hK (hR0.up hS) (ci := 3) (q0 := 0) rfl rfl) hG hS (fun q _ h => hF9 q h) ⟨rfl, (hP.sub (ws' := [((xa 7), .inl (dA 4, 8, .inr (.inr (.inr (.inr (fun k => some (rm k)))))))]) [0] rfl), (hD.sub (ws' := [((xa 7), .inl (dA 4, 8, .inr (.inr (.inr (.inr (fun k => some (rm k)))))))]) [0] (by decide) rfl).self, (hR0.to hS (fun q _ h => hF9 q h)), (RO.beside (wr := [(ra_5, .inr (0, [.ref mr_5, .long ((redS (M_4 0) (detR M_4 (2 ^ (p0 + q0 + r0) - 1))) 0)])), (mr_5, .inl (dA 1, 32, .inr (.inl (fun j => (redS (M_4 0) (detR M_4 (2 ^ (p0 + q0 + r0) - 1))) (j + 1)))))]) hP hD [0] [5, 6] rfl rfl (by decide))⟩) rfl rfl hl.1 rfl (lv_room (Nat.le_of_ble_eq_true rfl)) dX1_determinant_61 ⟨by first | decide | omega | (show _ ≤ (600 : Nat); omega), by first | decide | omega | (show _ ≤ (10200 : Nat); omega)⟩) hP hD hS hA [0] [1, 2, 3, 4, 5, 6] rfl rfl (by decide) (by decide) (fun r9 u9 H locs hq hX hz hk hP hD hS => ?_)
  obtain ⟨r_6, rfl⟩ : ∃ z, z = r9 := ⟨_, rfl⟩
  subst hq
  have hP : va_P (dC, dI) vwCl [(ra_2, .inr (0, [.ref mr_2, .long ((basM (2 ^ (p0 + q0 + r0) - 1)) 0)])), (mr_2, .inl (dA 1, 32, .inr (.inl (fun j => (basM (2 ^ (p0 + q0 + r0) - 1)) (j + 1))))), (ra_4, .inr (0, [.ref mr_4, .long (M_4 0)])), (mr_4, .inl (dA 1, 32, .inr (.inl (fun j => M_4 (j + 1))))), (ra_5, .inr (0, [.ref mr_5, .long ((redS (M_4 0) (detR M_4 (2 ^ (p0 + q0 + r0) - 1))) 0)])), (mr_5, .inl (dA 1, 32, .inr (.inl (fun j => (redS (M_4 0) (detR M_4 (2 ^ (p0 + q0 + r0) - 1))) (j + 1))))), ((xa 7), .inl (dA 4, 8, .inr (.inr (.inr (.inr (va_up (fun k => some (rm k)) jt (some ra_5)))))))] H := hP
  have hD : va_D A [(ra_2, .inr (0, [.ref mr_2, .long ((basM (2 ^ (p0 + q0 + r0) - 1)) 0)])), (mr_2, .inl (dA 1, 32, .inr (.inl (fun j => (basM (2 ^ (p0 + q0 + r0) - 1)) (j + 1))))), (ra_4, .inr (0, [.ref mr_4, .long (M_4 0)])), (mr_4, .inl (dA 1, 32, .inr (.inl (fun j => M_4 (j + 1))))), (ra_5, .inr (0, [.ref mr_5, .long ((redS (M_4 0) (detR M_4 (2 ^ (p0 + q0 + r0) - 1))) 0)])), (mr_5, .inl (dA 1, 32, .inr (.inl (fun j => (redS (M_4 0) (detR M_4 (2 ^ (p0 + q0 + r0) - 1))) (j + 1))))), ((xa 7), .inl (dA 4, 8, .inr (.inr (.inr (.inr (va_up (fun k => some (rm k)) jt (some ra_5)))))))] := hD
  have e8 : rg (nI jt) = jt := rg_n (by omega)
  subst hQe
  refine vx_ret ?_
  refine W.widen (k := 600) (n := 10200) (by first | decide | omega) (by first | decide | omega) ?_
  exact W.iret (v := nI (trmS (redS (M_4 0) (detR M_4 (2 ^ (p0 + q0 + r0) - 1))))) hx hb hr (fun tz ht hW => ⟨⟨_, (ra_5, mr_5, (redS (M_4 0) (detR M_4 (2 ^ (p0 + q0 + r0) - 1)))), rfl, ⟨det_ok h7jt himg0 (by omega) (det_m hn e_4), rfl⟩, B1_at ht (by rw [e8]; exact hP.sub [6] rfl) (by rw [e8]; exact hD.sub [6] (by decide) rfl) (⟨hP.sub [4, 5] rfl, Or.inl ⟨fresh_of hD hAf 6 4 rfl rfl (by decide), fresh_of hD hAf 6 5 rfl rfl (by decide)⟩⟩)⟩, hS.F ht⟩) hS.2.2 dX1_determinant_64
