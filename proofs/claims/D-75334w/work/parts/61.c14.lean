theorem gcd_nz {a b : Int64} (h : 0 < b.toInt) (hb : b ≠ Int64.minValue) : ¬ gcdL a b = 0 := by
  unfold gcdL
  have h1 := aN_pos h
  have h2 : Nat.gcd (aN a) (aN b) ≤ aN b := Nat.le_of_dvd h1 (Nat.gcd_dvd_right _ _)
  exact lN_nz (Nat.gcd_pos_of_pos_right _ h1) (Nat.lt_of_le_of_lt h2 (aN_lt hb))
section QPX
variable {p q r : Nat} {Ms : Nat → MV}
theorem bl_t {p q r b : Nat} (hn : p + q + r ≤ 5) (h : b < 2 ^ (p + q + r)) : blB p q r (nI b) = true := inB_r (by have := pow5 hn; omega) (by omega)
theorem num_1 {a b : Int32} (h : (rgB a && blB p q r b) = false) : numX p q r Ms a b = (nI 1, nI 0) := if_pos h
theorem den_1 {a b : Int32} (h : (rgB a && blB p q r b) = false) : denX p q r Ms a b = (nI 1, nI 0) := if_pos h
theorem num_ok {a b : Nat} (hn : p + q + r ≤ 5) (ha : a < 8) (hb : b < 2 ^ (p + q + r)) : numX p q r Ms (nI a) (nI b) = (nI 0, (Ms a (b + 1) / gcdL (Ms a (b + 1)) (Ms a 0)).toInt32) := by
  unfold numX; rw [rg_t ha, bl_t hn hb, rg_n ha, clp (by have := pow5 hn; omega), gcdL_comm]; rfl
theorem den_ok {a b : Nat} (hn : p + q + r ≤ 5) (ha : a < 8) (hb : b < 2 ^ (p + q + r)) : denX p q r Ms (nI a) (nI b) = (nI 0, (Ms a 0 / gcdL (Ms a (b + 1)) (Ms a 0)).toInt32) := by
  unfold denX; rw [rg_t ha, bl_t hn hb, rg_n ha, clp (by have := pow5 hn; omega), gcdL_comm]; rfl
theorem cdn_1 {a : Int32} (h : rgB a = false) : cdnX Ms a = (nI 1, nI 0) := if_pos h
theorem cdn_ok {a : Nat} (ha : a < 8) : cdnX Ms (nI a) = (nI 0, (Ms a 0).toInt32) := by
  unfold cdnX; rw [rg_t ha, rg_n ha]; rfl
theorem sgn_1 {a b : Int32} (h : (blB p q r a && blB p q r b) = false) : sgnX p q r a b = (nI 1, nI 0) := if_pos h
theorem sgn_ok {a b : Nat} (hn : p + q + r ≤ 5) (ha : a < 2 ^ (p + q + r)) (hb : b < 2 ^ (p + q + r)) : sgnX p q r (nI a) (nI b) = (nI 0, sgS p q r a b) := by
  unfold sgnX; rw [bl_t hn ha, bl_t hn hb, clp (by have := pow5 hn; omega), clp (by have := pow5 hn; omega)]; rfl
theorem sig_1 {a : Int32} (h : inB a (nI 0) (nI 3) = false) : sigX p q r a = (nI 1, nI 0) := if_pos h
theorem grs_1 {a : Int32} (h : rgB a = false) : grsX Ms a = (nI 1, nI 0) := if_pos h
theorem grs_ok {a : Nat} (ha : a < 8) : grsX Ms (nI a) = (nI 0, nI (grS (Ms a))) := by
  unfold grsX; rw [rg_t ha, rg_n ha]; rfl
theorem eq_1 {a b : Int32} (h : (rgB a && rgB b) = false) : eqX Ms a b = (nI 1, nI 0) := if_pos h
theorem eq_ok {a b : Nat} (ha : a < 8) (hb : b < 8) : eqX Ms (nI a) (nI b) = (nI 0, bI (likeB (Ms a) (Ms b) 33)) := by
  unfold eqX; rw [rg_t ha, rg_t hb, rg_n ha, rg_n hb]; rfl
theorem bla_1 {a : Int32} (h : rgB a = false) : blaX p q r Ms a = (nI 1, nI 0) := if_pos h
theorem bla_ok {a : Nat} (ha : a < 8) : blaX p q r Ms (nI a) = (nI 0, bI (oneB (p + q + r) (Ms a))) := by
  unfold blaX; rw [rg_t ha, rg_n ha]; rfl
theorem vin_1 {a : Int32} (h : rgB a = false) : vinX p q r Ms a = (nI 1, nI 0) := if_pos h
theorem vin_ok {a : Nat} (ha : a < 8) : vinX p q r Ms (nI a) = (nI 0, nI (vinN (Ms a) (2 ^ (p + q + r) - 1) (2 ^ (p + q + r)))) := by
  unfold vinX; rw [rg_t ha, rg_n ha]; rfl
theorem com_1 {a b : Int32} (h : (rgB a && rgB b) = false) : comX p q r Ms a b = (nI 1, nI 0) := if_pos h
theorem com_2 {a b : Nat} (ha : a < 8) (hb : b < 8) (e : mulS 2 p q r (Ms a) (Ms b) = none) : comX p q r Ms (nI a) (nI b) = (nI 2, nI 0) := by
  unfold comX; rw [rg_t ha, rg_t hb, rg_n ha, rg_n hb, e]; rfl
theorem com_3 {a b : Nat} {S : MV} (ha : a < 8) (hb : b < 8) (e : mulS 2 p q r (Ms a) (Ms b) = some S) (e2 : mulS 2 p q r (Ms b) (Ms a) = none) : comX p q r Ms (nI a) (nI b) = (nI 2, nI 0) := by
  unfold comX; rw [rg_t ha, rg_t hb, rg_n ha, rg_n hb, e, e2]; rfl
theorem com_ok {a b : Nat} {S T : MV} (ha : a < 8) (hb : b < 8) (e : mulS 2 p q r (Ms a) (Ms b) = some S) (e2 : mulS 2 p q r (Ms b) (Ms a) = some T) : comX p q r Ms (nI a) (nI b) = (nI 0, bI (likeB S T 33)) := by
  unfold comX; rw [rg_t ha, rg_t hb, rg_n ha, rg_n hb, e, e2]; rfl
theorem sqk_n {a : Int32} (h : rgB a = false) : sqkX p q r Ms a = (nI 1, nI 0) := if_pos h
theorem sqk_x {a : Nat} (ha : a < 8) (e : mulS 2 p q r (Ms a) (Ms a) = none) : sqkX p q r Ms (nI a) = (nI 2, nI 0) := by
  unfold sqkX; rw [rg_t ha, rg_n ha, e]; rfl
theorem sqk_e {a : Nat} {S : MV} (ha : a < 8) (e : mulS 2 p q r (Ms a) (Ms a) = some S) : sqkX p q r Ms (nI a) = (nI 0, if grS S &&& 62 = 0 then (if 0 < S 1 then nI 1 else if S 1 < 0 then nI 2 else nI 3) else nI 0) := by
  unfold sqkX; rw [rg_t ha, rg_n ha, e]; rfl
theorem sqk_0 {a : Nat} {S : MV} (ha : a < 8) (e : mulS 2 p q r (Ms a) (Ms a) = some S) (h : ¬ grS S &&& 62 = 0) : sqkX p q r Ms (nI a) = (nI 0, nI 0) := by
  rw [sqk_e ha e, if_neg h]
theorem sqk_1 {a : Nat} {S : MV} (ha : a < 8) (e : mulS 2 p q r (Ms a) (Ms a) = some S) (h : grS S &&& 62 = 0) (c : ¬ S 1 ≤ 0) : sqkX p q r Ms (nI a) = (nI 0, nI 1) := by
  rw [sqk_e ha e, if_pos h, if_pos (Int64.not_le.mp c)]
theorem sqk_2 {a : Nat} {S : MV} (ha : a < 8) (e : mulS 2 p q r (Ms a) (Ms a) = some S) (h : grS S &&& 62 = 0) (c : S 1 ≤ 0) (c2 : ¬ 0 ≤ S 1) : sqkX p q r Ms (nI a) = (nI 0, nI 2) := by
  rw [sqk_e ha e, if_pos h, if_neg (Int64.not_lt.mpr c), if_pos (Int64.not_le.mp c2)]
theorem sqk_3 {a : Nat} {S : MV} (ha : a < 8) (e : mulS 2 p q r (Ms a) (Ms a) = some S) (h : grS S &&& 62 = 0) (c : S 1 ≤ 0) (c2 : 0 ≤ S 1) : sqkX p q r Ms (nI a) = (nI 0, nI 3) := by
  rw [sqk_e ha e, if_pos h, if_neg (Int64.not_lt.mpr c), if_neg (Int64.not_lt.mpr c2)]
end QPX
set_option maxHeartbeats 4000000 in
theorem x1_blade {l : Launch} {dC : Nat → ClassId} {dI : Nat → Nat → Nat} {dA : Nat → ClassId} {s0 : State} {b0 : Addr} (Z : Z0 l dC dI dA s0 b0) (A : Nat → Prop) (sz : Nat) (hA : ∀ q : Nat, sz ≤ q → A q) {σ : Nat → Nat} (Y : SS (dC, dI) dA σ s0) (xa : Nat → Nat) (tl : Nat) (ec ep : Int32) (ga sg : Nat) (sr : Nat → Nat) (p0 q0 r0 : Nat) (ra : Nat) (b : Int32) : vx_Met l yX1_blade (ws_ yX1_blade cX1_blade 2 none) ({ frames := 7, cells := 1, slots := 6, locals := 420 } : Room) (gP [.ref (xa 0), .int b] s0 A (fun H => H.size = sz ∧ RO A (dC, dI) [((xa 0), .inr (3, xFs xa tl ec ep)), ((xa 3), .inr (4, [.ref ga, .ref (xa 7)]))] H ∧ AG A (dC, dI) dA ga sg sr p0 q0 r0 H)) (va_Qv (S := Unit) (fun _ => blB p0 q0 r0 b = true) (B1 (dC, dI) A (fun _ => []) (fun _ _ => True)) A) (vx_X (S := Unit) (fun _ => blB p0 q0 r0 b = false) (fun _ E _ _ => E = "java/lang/IndexOutOfBoundsException") A) 1 6 A := by
  refine vx_ofW (cc := cX1_blade) (maxL := 2) (ret := none) (by decide) rfl ?_
  intro p e s m args below meth c s₁ B hml hnoH hv
  obtain ⟨hav, hG, hsz, hR0, hAG⟩ := hv
  have hx := B.exec
  have hb := B.bytes
  have hr := B.returns
  have hts := atoms_spec (ws := (ws_ yX1_blade cX1_blade 2 none)) B.pre
  have hts : ∀ w ∈ lw_all, w.before _ s = true := fun w h => hts w (List.mem_cons_of_mem _ h)
  have hown : s.vm.findClass RX1 = some m.cls := findClass_of_methodNamed B.named
  have hlocks := B.notSynchronized
  have hK := hG.K Z
  subst hsz
  have hS : va_S A s.heap s.heap [] := va_S.rf
  have hP : va_P (dC, dI) vwCl [] s.heap := fun k q h => by simp at h
  have hD : va_D A [] := ⟨fun i j p q h => by simp at h, fun k q h => by simp at h⟩
  have hl := lv_entry ([.ref (xa 0), .int b]) (n := 2) (Nat.le_of_ble_eq_true rfl)
  rw [show entryFrame m args 2 = entryFrame m ([.ref (xa 0), .int b] : List Value).toArray 2 from by rw [hav], lg_entry_eq]
  generalize (lg_sl ([.ref (xa 0), .int b]) ++ List.replicate (2 - (lg_sl ([.ref (xa 0), .int b])).length) Slot.unset).toArray = ls at hl ⊢
  have hl : lv_has ls 2 [(0, .ref (xa 0)), (1, .int b)] := hl
  generalize hQe : vx_MQ below _ _ _ s _ _ _ = Q
  change W p l e ({ frames := 7, cells := 1, slots := 6, locals := 420 } : Room) s m args below meth c s.heap [] 0 0 Q (F0 m 0 ls [])
  have hn := hAG.1
  have h5 := pow5 hn
  have hR1 := hAG.2.1
  refine lv_aload_n hx hb dX1_blade_0 rfl (lv_at hl 0 rfl) ?_
  refine va_get (D := (dC, dI)) (ci := 3) (v := .ref (xa 3)) (C := RX1) (T := TX1) (N := 9) hx hb hts in_X1 hown hK (hR0.up hS) 0 rfl rfl 2 (by decide) (hts _ q286) (fun _ h9 => h9) rfl dX1_blade_1 ?_
  refine va_getN (D := (dC, dI)) (ci := 4) (v := .ref ga) (C := RX4) (T := TX4) (N := 2) hx hb hts in_X4 hown hK (hR0.up hS) 1 rfl rfl 0 (by decide) (((va_Nw.warmF hG.1 (va_Nw.of rfl (Z.2.1 _ q240)))).use rfl) (fun _ h9 => h9) rfl dX1_blade_4 ?_
  refine lv_iload_n hx hb dX1_blade_7 rfl (lv_at hl 1 rfl) ?_
  refine s_i (va_runV (As := [.int b]) (rest := []) ⟨hx, hb, hml, hown, hts⟩ (x5_isBlade1 Z Y ga sg sr p0 q0 r0 b hn) (cwV 1 hts (lw_V q493 q494 q495 q101 q496) rfl rfl rfl (by decide +kernel) ⟨Nat.le_of_ble_eq_true rfl, Nat.le_of_ble_eq_true rfl⟩) (gP_V (va_recv hK (hR1.up hS) (ci := 1) (q0 := 0) rfl rfl) hG hS (fun q _ h => h.elim) ((hR1.up hS).sub (ws' := [(ga, .inr (1, [.int (nI p0), .int (nI q0), .int (nI r0), .int (nI (p0 + q0 + r0)), .int (nI (2 ^ (p0 + q0 + r0) - 1)), .ref sg]))]) [0] rfl)) rfl rfl hl.1 rfl (lv_room (Nat.le_of_ble_eq_true rfl)) dX1_blade_8 ⟨by first | decide | omega | (show _ ≤ (1 : Nat); omega), by first | decide | omega | (show _ ≤ (6 : Nat); omega)⟩) ?_
  have hF9 := va_free (wc := []) hD hS (fun q h => hA q h) [] rfl
  refine x_v (wc := []) (wr := []) (vx_runS (As := [.int (bI (blB p0 q0 r0 b))]) (rest := []) ⟨hx, hb, hml, hown, hts⟩ (x1_index Z (va_A [] s.heap.size) s.heap.size (fun q h => Or.inr h) (SS.st Y) (σ 50) (SS.st0 Y) (blB p0 q0 r0 b)) (va_cwS 1 hts (lw_S q473 q474 q96 q475) rfl rfl rfl (by decide +kernel) ⟨Nat.le_of_ble_eq_true rfl, Nat.le_of_ble_eq_true rfl⟩) (gP_S hG hS (fun q _ h => hF9 q h) rfl) rfl rfl hl.1 rfl (lv_room (Nat.le_of_ble_eq_true rfl)) dX1_blade_11 ⟨by first | decide | omega | (show _ ≤ (1 : Nat); omega), by first | decide | omega | (show _ ≤ (6 : Nat); omega)⟩) hP hD hS hA [] [] rfl rfl (by decide) (by decide) (fun E ce q9 u9 t9 H locs ht9 hp9 hb9 hz hP hS h1 h2 h3 => ?_) (fun u9 H locs hq hX hz hk hP hD hS => ?_)
  · have hD := hD.sub (ws' := []) [] (by decide) rfl
    have hP : va_P (dC, dI) vwCl [] H := hP
    have hD : va_D A [] := hD
    subst hb9
    subst hQe
    exact vx_out (fun x h => (hnoH x h).elim) hlocks h1 h2 h3 (fun t10 e10 _ => ⟨(), hp9, rfl, hS.F e10⟩) hS.2.2 (by first | decide | omega) (by first | decide | omega)
  have hg11 : (blB p0 q0 r0 b) = true := hq
  clear hq
  have hP : va_P (dC, dI) vwCl [] H := hP
  have hD : va_D A [] := hD
  subst hQe
  refine vx_ret ?_
  refine W.widen (k := 1) (n := 6) (by first | decide | omega) (by first | decide | omega) ?_
  exact W.vret hx hb hr (fun tz ht hW => ⟨⟨(), rfl, hg11, B1_at ht (hP.sub [] rfl) (hD.sub [] (by decide) rfl) trivial⟩, hS.F ht⟩) hS.2.2 dX1_blade_14
set_option maxHeartbeats 4000000 in
theorem x1_term {l : Launch} {dC : Nat → ClassId} {dI : Nat → Nat → Nat} {dA : Nat → ClassId} {s0 : State} {b0 : Addr} (Z : Z0 l dC dI dA s0 b0) (A : Nat → Prop) (sz : Nat) (hA : ∀ q : Nat, sz ≤ q → A q) {σ : Nat → Nat} (Y : SS (dC, dI) dA σ s0) (xa : Nat → Nat) (tl : Nat) (ec ep : Int32) (ga sg : Nat) (sr : Nat → Nat) (p0 q0 r0 : Nat) (rm rr : Nat → Nat) (Ms : Nat → MV) (a b : Int32) (sR : ∀ k, k < 8 → MSm (Ms k)) (pR : ∀ k, k < 8 → MSp (2 ^ (p0 + q0 + r0)) (Ms k)) : vx_Met l yX1_term (ws_ yX1_term cX1_term 4 (some (.object "BladeAlgebra$Term"))) ({ frames := 8, cells := 6, slots := 60, locals := 480 } : Room) (gP [.ref (xa 0), .int a, .int b] s0 A (fun H => H.size = sz ∧ RO A (dC, dI) [((xa 0), .inr (3, xFs xa tl ec ep)), ((xa 3), .inr (4, [.ref ga, .ref (xa 7)]))] H ∧ RO A (dC, dI) [((xa 7), .inl (dA 4, 8, .inr (.inr (.inr (.inr (fun k => some (rm k)))))))] H ∧ AG A (dC, dI) dA ga sg sr p0 q0 r0 H ∧ RG A (dC, dI) dA rm rr Ms H)) (va_Qr (S := Nat × Nat) (fun u => u.1 < 8 ∧ u.2 < 2 ^ (p0 + q0 + r0) ∧ a = nI u.1 ∧ b = nI u.2) (B1r (dC, dI) A (fun u q => [(q, .inr (5, [.int (nI u.2), .long (Ms u.1 (u.2 + 1) / gcdL (Ms u.1 (u.2 + 1)) (Ms u.1 0)), .long (Ms u.1 0 / gcdL (Ms u.1 (u.2 + 1)) (Ms u.1 0))]))]) (fun _ _ _ => True)) A) (vx_X (S := Unit) (fun _ => (rgB a && blB p0 q0 r0 b) = false) (fun _ E _ _ => E = "java/lang/IndexOutOfBoundsException") A) 6 60 A := by
  refine vx_ofW (cc := cX1_term) (maxL := 4) (ret := (some (.object "BladeAlgebra$Term"))) (by decide) rfl ?_
  intro p e s m args below meth c s₁ B hml hnoH hv
  obtain ⟨hav, hG, hsz, hR0, hR1, hAG, hRG⟩ := hv
  have hx := B.exec
  have hb := B.bytes
  have hr := B.returns
  have hts := atoms_spec (ws := (ws_ yX1_term cX1_term 4 (some (.object "BladeAlgebra$Term")))) B.pre
  have hts : ∀ w ∈ lw_all, w.before _ s = true := fun w h => hts w (List.mem_cons_of_mem _ h)
  have hown : s.vm.findClass RX1 = some m.cls := findClass_of_methodNamed B.named
  have hlocks := B.notSynchronized
  have hK := hG.K Z
  subst hsz
  have hS : va_S A s.heap s.heap [] := va_S.rf
  have hP : va_P (dC, dI) vwCl [] s.heap := fun k q h => by simp at h
  have hD : va_D A [] := ⟨fun i j p q h => by simp at h, fun k q h => by simp at h⟩
  have hl := lv_entry ([.ref (xa 0), .int a, .int b]) (n := 4) (Nat.le_of_ble_eq_true rfl)
  rw [show entryFrame m args 4 = entryFrame m ([.ref (xa 0), .int a, .int b] : List Value).toArray 4 from by rw [hav], lg_entry_eq]
  generalize (lg_sl ([.ref (xa 0), .int a, .int b]) ++ List.replicate (4 - (lg_sl ([.ref (xa 0), .int a, .int b])).length) Slot.unset).toArray = ls at hl ⊢
  have hl : lv_has ls 4 [(0, .ref (xa 0)), (1, .int a), (2, .int b)] := hl
  generalize hQe : vx_MQ below _ _ _ s _ _ _ = Q
  change W p l e ({ frames := 8, cells := 6, slots := 60, locals := 480 } : Room) s m args below meth c s.heap [] 0 0 Q (F0 m 0 ls [])
  have hn := hAG.1
  have h5 := pow5 hn
  have hR2 := hAG.2.1
  refine lv_iconst (v := nI 1) hx hb dX1_term_0 (by decide) ?_
  refine a_newa (D := (dC, dI)) (atype := .int) (N' := 1) (a0 := (1, .inl (fun _ => 0))) hx hb (hts _ q230) rfl hK hP hD hS hA 0 rfl (fun _ => ra_int) (fun _ => rfl) (by decide) (by decide) (by decide) (by first | decide | omega) (by first | decide | omega) dX1_term_1 (fun na_1 H locs hP hD hS => ?_)
  have hP : va_P (dC, dI) vwCl [(na_1, .inl (dA 0, 1, .inl (fun _ => 0)))] H := hP
  have hD : va_D A [(na_1, .inl (dA 0, 1, .inl (fun _ => 0)))] := hD
  refine lv_dup hx hb dX1_term_3 rfl ?_
  refine lv_iconst (v := nI 0) hx hb dX1_term_4 (by decide) ?_
  refine lv_iload_n hx hb dX1_term_5 rfl (lv_at hl 1 rfl) ?_
  refine a_iast hx hb hK hP hD hS 0 0 rfl rfl (by omega) (by omega) dX1_term_6 (fun H locs hP hD hS => ?_)
  have hP : va_P (dC, dI) vwCl [(na_1, .inl (dA 0, 1, .inl (upd (fun _ => 0) 0 a)))] H := hP
  have hD : va_D A [(na_1, .inl (dA 0, 1, .inl (upd (fun _ => 0) 0 a)))] := hD
  have hF9 := va_free (wc := []) hD hS (fun q h => hA q h) [] rfl
  refine x_v (wc := []) (wr := [(na_1, .inl (dA 0, 1, .inl (upd (fun _ => 0) 0 a)))]) (vx_runS (As := [.ref na_1]) (rest := []) ⟨hx, hb, hml, hown, hts⟩ (x1_registers Z (va_A [] H.size) H.size (fun q h => Or.inr h) Y na_1 1 (upd (fun _ => 0) 0 a) (by decide)) (va_cwS 1 hts (lw_S q469 q470 q96 q471) rfl rfl rfl (by decide +kernel) ⟨Nat.le_of_ble_eq_true rfl, Nat.le_of_ble_eq_true rfl⟩) (gP_S hG hS (fun q _ h => hF9 q h) ⟨rfl, (RO.beside (wr := [(na_1, .inl (dA 0, 1, .inl (upd (fun _ => 0) 0 a)))]) hP hD [] [0] rfl rfl (by decide))⟩) rfl rfl hl.1 rfl (lv_room (Nat.le_of_ble_eq_true rfl)) dX1_term_7 ⟨by first | decide | omega | (show _ ≤ (6 : Nat); omega), by first | decide | omega | (show _ ≤ (60 : Nat); omega)⟩) hP hD hS hA [] [0] rfl rfl (by decide) (by decide) (fun E ce q9 u9 t9 H locs ht9 hp9 hb9 hz hP hS h1 h2 h3 => ?_) (fun u9 H locs hq hX hz hk hP hD hS => ?_)
  · have hD := hD.sub (ws' := [(na_1, .inl (dA 0, 1, .inl (upd (fun _ => 0) 0 a)))]) [0] (by decide) rfl
    have hP : va_P (dC, dI) vwCl [(na_1, .inl (dA 0, 1, .inl (upd (fun _ => 0) 0 a)))] H := hP
    have hD : va_D A [(na_1, .inl (dA 0, 1, .inl (upd (fun _ => 0) 0 a)))] := hD
    subst hb9
    subst hQe
    exact vx_out (fun x h => (hnoH x h).elim) hlocks h1 h2 h3 (fun t10 e10 _ => ⟨(), by rw [rgs1.symm.trans hp9]; rfl, rfl, hS.F e10⟩) hS.2.2 (by first | decide | omega) (by first | decide | omega)
  have hrg : (rgB a) = true := rgs1.symm.trans hq
  clear hq
  have hP : va_P (dC, dI) vwCl [(na_1, .inl (dA 0, 1, .inl (upd (fun _ => 0) 0 a)))] H := hP
  have hD : va_D A [(na_1, .inl (dA 0, 1, .inl (upd (fun _ => 0) 0 a)))] := hD
  have hP0 := hP.sub (ws' := []) [] rfl
  have hD0 := hD.sub (ws' := []) [] (by decide) rfl
  have h8ja := inB_nat (by decide) (show inB a (nI 0) (nI 7) = true from hrg)
  obtain ⟨ja, h9ja, e8ja⟩ := h8ja
  have h7ja : ja < 8 := by omega
  subst e8ja
  have hP := hP0
  have hD := hD0
  refine lv_aload_n hx hb dX1_term_10 rfl (lv_at hl 0 rfl) ?_
  refine lv_iload_n hx hb dX1_term_11 rfl (lv_at hl 2 rfl) ?_
  have hF9 := va_free (wc := []) hD hS (fun q h => hA q h) [] rfl
  refine x_v (wc := []) (wr := []) (vx_runV (As := [.int b]) (rest := []) ⟨hx, hb, hml, hown, hts⟩ (x1_blade Z (va_A [] H.size) H.size (fun q h => Or.inr h) Y xa tl ec ep ga sg sr p0 q0 r0 0 b) (cwV 1 hts (lw_V q489 q491 qs2 q96 q492) rfl rfl rfl (by decide +kernel) ⟨Nat.le_of_ble_eq_true rfl, Nat.le_of_ble_eq_true rfl⟩) (gP_V (va_recv hK (hR0.up hS) (ci := 3) (q0 := 0) rfl rfl) hG hS (fun q _ h => hF9 q h) ⟨rfl, (hR0.to hS (fun q _ h => hF9 q h)), (hAG.to hS (fun q _ h => hF9 q h))⟩) rfl rfl hl.1 rfl (lv_room (Nat.le_of_ble_eq_true rfl)) dX1_term_12 ⟨by first | decide | omega | (show _ ≤ (6 : Nat); omega), by first | decide | omega | (show _ ≤ (60 : Nat); omega)⟩) hP hD hS hA [] [] rfl rfl (by decide) (by decide) (fun E ce q9 u9 t9 H locs ht9 hp9 hb9 hz hP hS h1 h2 h3 => ?_) (fun u9 H locs hq hX hz hk hP hD hS => ?_)
  · have hD := hD.sub (ws' := []) [] (by decide) rfl
    have hP : va_P (dC, dI) vwCl [] H := hP
    have hD : va_D A [] := hD
    subst hb9
    subst hQe
    exact vx_out (fun x h => (hnoH x h).elim) hlocks h1 h2 h3 (fun t10 e10 _ => ⟨(), by rw [rg_t h7ja, hp9]; rfl, rfl, hS.F e10⟩) hS.2.2 (by first | decide | omega) (by first | decide | omega)
  have hbl12 := hq
  clear hq
  have hP : va_P (dC, dI) vwCl [] H := hP
  have hD : va_D A [] := hD
  obtain ⟨jb, h9jb, e8jb⟩ := inB_nat (by omega) hbl12
  have hP0 := hP
  have hD0 := hD
  subst e8jb
  have hP := hP0
  have hD := hD0
  have h6jb : jb < 2 ^ (p0 + q0 + r0) := by omega
  refine lv_aload_n hx hb dX1_term_15 rfl (lv_at hl 0 rfl) ?_
  refine va_get (D := (dC, dI)) (ci := 3) (v := .ref (xa 3)) (C := RX1) (T := TX1) (N := 9) hx hb hts in_X1 hown hK (hR0.up hS) 0 rfl rfl 2 (by decide) (hts _ q286) (fun _ h9 => h9) rfl dX1_term_16 ?_
  refine va_getN (D := (dC, dI)) (ci := 4) (v := .ref (xa 7)) (C := RX4) (T := TX4) (N := 2) hx hb hts in_X4 hown hK (hR0.up hS) 1 rfl rfl 1 (by decide) (((va_Nw.warmF hG.1 (va_Nw.of rfl (Z.2.1 _ q243)))).use rfl) (fun _ h9 => h9) rfl dX1_term_19 ?_
  refine lv_iload_n hx hb dX1_term_22 rfl (lv_at hl 1 rfl) ?_
  refine a_aldq hx hb hK (hR1.up hS) 0 4 rfl rfl (by omega) (by decide) dX1_term_23 ?_
  refine e_v (y := .ref (rm ja)) (rfl) ?_
  have hR3 := hRG ja (by omega)
  refine lv_astore_n (lv' := [(3, .ref (rm ja)), (0, .ref (xa 0)), (1, .int (nI ja)), (2, .int (nI jb))]) hx hb dX1_term_24 rfl hl (by decide) rfl (fun ls hl => ?_)
  refine va_new (D := (dC, dI)) (ci := 5) (fs := [.int 0, .long 0, .long 0]) (C := RX9) (T := TX9) (N := 3) hx hb hts in_X9 tyX9 tyX9_ok hown (hts _ q579) (hts _ q580) (hts _ q117) hK hP hD hS hA rfl (fun j hj => by rcases (show j = 0 ∨ j = 1 ∨ j = 2 by omega) with rfl | rfl | rfl <;> rfl) (by first | decide | omega) (by first | decide | omega) dX1_term_25 (fun nw_2 H hP hD hS => ?_)
  have hP : va_P (dC, dI) vwCl [(nw_2, .inr (5, [.int 0, .long 0, .long 0]))] H := hP
  have hD : va_D A [(nw_2, .inr (5, [.int 0, .long 0, .long 0]))] := hD
  refine lv_dup hx hb dX1_term_28 rfl ?_
  refine lv_iload_n hx hb dX1_term_29 rfl (lv_at hl 3 rfl) ?_
  refine lv_aload_n hx hb dX1_term_30 rfl (lv_at hl 0 rfl) ?_
  refine va_getN (D := (dC, dI)) (ci := 0) (v := .ref (rr ja)) (C := RX6) (T := TX6) (N := 2) hx hb hts in_X6 hown hK (hR3.up hS) 0 rfl rfl 0 (by decide) (((va_Nw.warmF hG.1 (va_Nw.of rfl (Z.2.1 _ q552)))).use rfl) (fun _ h9 => h9) rfl dX1_term_31 ?_
  refine lv_iload_n hx hb dX1_term_34 rfl (lv_at hl 3 rfl) ?_
  refine a_lald hx hb hK (hR3.up hS) 1 1 rfl rfl (by omega) (by omega) dX1_term_35 ?_
  refine e_l (y := Ms ja (jb + 1)) (rfl) ?_
  refine lv_aload_n hx hb dX1_term_36 rfl (lv_at hl 0 rfl) ?_
  refine va_getN (D := (dC, dI)) (ci := 0) (v := .long (Ms ja 0)) (C := RX6) (T := TX6) (N := 2) hx hb hts in_X6 hown hK (hR3.up hS) 0 rfl rfl 1 (by decide) (((va_Nw.warmF hG.1 (va_Nw.of rfl (Z.2.1 _ q556)))).use rfl) (fun _ h9 => h9) rfl dX1_term_37 ?_
  have hF9 := va_free (wc := [(nw_2, .inr (5, [.int 0, .long 0, .long 0]))]) hD hS (fun q h => hA q h) [0] rfl
  refine c_v (wr := []) (va_runI (As := [.int (nI jb), .long (Ms ja (jb + 1)), .long (Ms ja 0)]) (rest := [.ref nw_2]) ⟨hx, hb, hml, hown, hts⟩ (x9_init Z (va_A [(nw_2, .inr (5, [.int 0, .long 0, .long 0]))] H.size) H.size (fun q h => Or.inr h) nw_2 (nI jb) (Ms ja (jb + 1)) (Ms ja 0) (ne_min_of ((sR ja (by omega)).c (by omega)) (by decide)) (ne_min_of (sR ja (by omega)).u (by decide)) (gcd_nz (sR ja (by omega)).1 (ne_min_of (sR ja (by omega)).u (by decide)))) (cwI 3 hts (lw_meth q583) rfl rfl rfl (hts _ q117) (hts _ q581) (hts _ q582) rfl (by decide +kernel) ⟨Nat.le_of_ble_eq_true rfl, Nat.le_of_ble_eq_true rfl⟩) (gP_S hG hS (fun q _ h => hF9 q h) ⟨rfl, (hP.sub (ws' := [(nw_2, .inr (5, [.int 0, .long 0, .long 0]))]) [0] rfl), (hD.sub (ws' := [(nw_2, .inr (5, [.int 0, .long 0, .long 0]))]) [0] (by decide) rfl).self⟩) rfl rfl hl.1 rfl (lv_room (Nat.le_of_ble_eq_true rfl)) dX1_term_40 ⟨by first | decide | omega | (show _ ≤ (6 : Nat); omega), by first | decide | omega | (show _ ≤ (60 : Nat); omega)⟩) hP hD hS hA [0] [] rfl rfl (by decide) (by decide) (fun u9 H locs hq hX hz hk hP hD hS => ?_)
  have hP : va_P (dC, dI) vwCl [(nw_2, .inr (5, [.int (nI jb), .long ((Ms ja (jb + 1)) / gcdL (Ms ja (jb + 1)) (Ms ja 0)), .long ((Ms ja 0) / gcdL (Ms ja (jb + 1)) (Ms ja 0))]))] H := hP
  have hD : va_D A [(nw_2, .inr (5, [.int (nI jb), .long ((Ms ja (jb + 1)) / gcdL (Ms ja (jb + 1)) (Ms ja 0)), .long ((Ms ja 0) / gcdL (Ms ja (jb + 1)) (Ms ja 0))]))] := hD
  subst hQe
  refine vx_ret ?_
  refine W.widen (k := 6) (n := 60) (by first | decide | omega) (by first | decide | omega) ?_
  exact W.aret (v := .ref nw_2) hx hb hr (Or.inl ⟨_, rfl⟩) (Or.inr ⟨_, rfl⟩) (fun tz ht hW => ⟨⟨(ja, jb), nw_2, rfl, ⟨h7ja, h6jb, rfl, rfl⟩, B1r_at ht (hP.sub [0] rfl) (hD.sub [0] (by decide) rfl) trivial⟩, hS.F ht⟩) hS.2.2 dX1_term_43
set_option maxHeartbeats 4000000 in
theorem x1_numerator {l : Launch} {dC : Nat → ClassId} {dI : Nat → Nat → Nat} {dA : Nat → ClassId} {s0 : State} {b0 : Addr} (Z : Z0 l dC dI dA s0 b0) (A : Nat → Prop) (sz : Nat) (hA : ∀ q : Nat, sz ≤ q → A q) {σ : Nat → Nat} (Y : SS (dC, dI) dA σ s0) (xa : Nat → Nat) (tl : Nat) (ec ep : Int32) (ga sg : Nat) (sr : Nat → Nat) (p0 q0 r0 : Nat) (rm rr : Nat → Nat) (Ms : Nat → MV) (a b : Int32) (sR : ∀ k, k < 8 → MSm (Ms k)) (pR : ∀ k, k < 8 → MSp (2 ^ (p0 + q0 + r0)) (Ms k)) : vx_Met l yX1_numerator (ws_ yX1_numerator cX1_numerator 3 (some .int)) ({ frames := 9, cells := 6, slots := 60, locals := 540 } : Room) (gP [.ref (xa 0), .int a, .int b] s0 A (fun H => H.size = sz ∧ RO A (dC, dI) [((xa 0), .inr (3, xFs xa tl ec ep)), ((xa 3), .inr (4, [.ref ga, .ref (xa 7)]))] H ∧ RO A (dC, dI) [((xa 7), .inl (dA 4, 8, .inr (.inr (.inr (.inr (fun k => some (rm k)))))))] H ∧ AG A (dC, dI) dA ga sg sr p0 q0 r0 H ∧ RG A (dC, dI) dA rm rr Ms H)) (va_Qi (S := Unit) (fun r9 _ => numX p0 q0 r0 Ms a b = (nI 0, r9)) (B1 (dC, dI) A (fun _ => []) (fun _ _ => True)) A) (vx_X (S := Unit) (fun _ => True) (fun _ E _ _ => (E = "java/lang/IndexOutOfBoundsException" ∧ numX p0 q0 r0 Ms a b = (nI 1, nI 0))) A) 6 60 A := by
  refine vx_ofW (cc := cX1_numerator) (maxL := 3) (ret := (some .int)) (by decide) rfl ?_
  intro p e s m args below meth c s₁ B hml hnoH hv
  obtain ⟨hav, hG, hsz, hR0, hR1, hAG, hRG⟩ := hv
  have hx := B.exec
  have hb := B.bytes
  have hr := B.returns
  have hts := atoms_spec (ws := (ws_ yX1_numerator cX1_numerator 3 (some .int))) B.pre
  have hts : ∀ w ∈ lw_all, w.before _ s = true := fun w h => hts w (List.mem_cons_of_mem _ h)
  have hown : s.vm.findClass RX1 = some m.cls := findClass_of_methodNamed B.named
  have hlocks := B.notSynchronized
  have hK := hG.K Z
  subst hsz
  have hS : va_S A s.heap s.heap [] := va_S.rf
  have hP : va_P (dC, dI) vwCl [] s.heap := fun k q h => by simp at h
  have hD : va_D A [] := ⟨fun i j p q h => by simp at h, fun k q h => by simp at h⟩
  have hl := lv_entry ([.ref (xa 0), .int a, .int b]) (n := 3) (Nat.le_of_ble_eq_true rfl)
  rw [show entryFrame m args 3 = entryFrame m ([.ref (xa 0), .int a, .int b] : List Value).toArray 3 from by rw [hav], lg_entry_eq]
  generalize (lg_sl ([.ref (xa 0), .int a, .int b]) ++ List.replicate (3 - (lg_sl ([.ref (xa 0), .int a, .int b])).length) Slot.unset).toArray = ls at hl ⊢
  have hl : lv_has ls 3 [(0, .ref (xa 0)), (1, .int a), (2, .int b)] := hl
  generalize hQe : vx_MQ below _ _ _ s _ _ _ = Q
  change W p l e ({ frames := 9, cells := 6, slots := 60, locals := 540 } : Room) s m args below meth c s.heap [] 0 0 Q (F0 m 0 ls [])
  have hn := hAG.1
  have h5 := pow5 hn
  have hR2 := hAG.2.1
  refine lv_aload_n hx hb dX1_numerator_0 rfl (lv_at hl 0 rfl) ?_
  refine lv_iload_n hx hb dX1_numerator_1 rfl (lv_at hl 1 rfl) ?_
  refine lv_iload_n hx hb dX1_numerator_2 rfl (lv_at hl 2 rfl) ?_
  have hF9 := va_free (wc := []) hD hS (fun q h => hA q h) [] rfl
  refine x_r (wc := []) (wr := []) (vx_runV (As := [.int a, .int b]) (rest := []) ⟨hx, hb, hml, hown, hts⟩ (x1_term Z (va_A [] s.heap.size) s.heap.size (fun q h => Or.inr h) Y xa tl ec ep ga sg sr p0 q0 r0 rm rr Ms a b sR pR) (cwV 2 hts (lw_V q575 q577 qs3 q96 q578) rfl rfl rfl (by decide +kernel) ⟨Nat.le_of_ble_eq_true rfl, Nat.le_of_ble_eq_true rfl⟩) (gP_V (va_recv hK (hR0.up hS) (ci := 3) (q0 := 0) rfl rfl) hG hS (fun q _ h => hF9 q h) ⟨rfl, (hR0.to hS (fun q _ h => hF9 q h)), (hR1.to hS (fun q _ h => hF9 q h)), (hAG.to hS (fun q _ h => hF9 q h)), (hRG.to hS (fun q _ h => hF9 q h))⟩) rfl rfl hl.1 rfl (lv_room (Nat.le_of_ble_eq_true rfl)) dX1_numerator_3 ⟨by first | decide | omega | (show _ ≤ (6 : Nat); omega), by first | decide | omega | (show _ ≤ (60 : Nat); omega)⟩) hP hD hS hA [] [] rfl rfl (by decide) (by decide) (fun E ce q9 u9 t9 H locs ht9 hp9 hb9 hz hP hS h1 h2 h3 => ?_) (fun u9 ra9 H locs hq hX hz hk hP hD hS => ?_)
  · have hD := hD.sub (ws' := []) [] (by decide) rfl
    have hP : va_P (dC, dI) vwCl [] H := hP
    have hD : va_D A [] := hD
    subst hb9
    subst hQe
    exact vx_out (fun x h => (hnoH x h).elim) hlocks h1 h2 h3 (fun t10 e10 _ => ⟨(), trivial, (⟨rfl, num_1 hp9⟩), hS.F e10⟩) hS.2.2 (by first | decide | omega) (by first | decide | omega)
  obtain ⟨ra_1, rfl⟩ : ∃ z, z = ra9 := ⟨_, rfl⟩
  obtain ⟨ja, jb⟩ := u9
  obtain ⟨h7ja, h6jb, e8a, e8b⟩ := hq
  subst e8a
  subst e8b
  have hP : va_P (dC, dI) vwCl [(ra_1, .inr (5, [.int (nI jb), .long (Ms ja (jb + 1) / gcdL (Ms ja (jb + 1)) (Ms ja 0)), .long (Ms ja 0 / gcdL (Ms ja (jb + 1)) (Ms ja 0))]))] H := hP
  have hD : va_D A [(ra_1, .inr (5, [.int (nI jb), .long (Ms ja (jb + 1) / gcdL (Ms ja (jb + 1)) (Ms ja 0)), .long (Ms ja 0 / gcdL (Ms ja (jb + 1)) (Ms ja 0))]))] := hD
  refine va_getN (D := (dC, dI)) (ci := 5) (v := .long (Ms ja (jb + 1) / gcdL (Ms ja (jb + 1)) (Ms ja 0))) (C := RX9) (T := TX9) (N := 3) hx hb hts in_X9 hown hK hP 0 rfl rfl 1 (by decide) (((va_Nw.warmF hG.1 (va_Nw.of rfl (Z.2.1 _ q589)))).use rfl) (fun _ h9 => h9) rfl dX1_numerator_6 ?_
  refine lv_l2i (v := (Ms ja (jb + 1) / gcdL (Ms ja (jb + 1)) (Ms ja 0)).toInt32) hx hb dX1_numerator_9 rfl ?_
  subst hQe
  refine vx_ret ?_
  refine W.widen (k := 6) (n := 60) (by first | decide | omega) (by first | decide | omega) ?_
  exact W.iret (v := (Ms ja (jb + 1) / gcdL (Ms ja (jb + 1)) (Ms ja 0)).toInt32) hx hb hr (fun tz ht hW => ⟨⟨_, (), rfl, (num_ok hn h7ja h6jb), B1_at ht (hP.sub [] rfl) (hD.sub [] (by decide) rfl) trivial⟩, hS.F ht⟩) hS.2.2 dX1_numerator_10
set_option maxHeartbeats 4000000 in
theorem x1_denominator {l : Launch} {dC : Nat → ClassId} {dI : Nat → Nat → Nat} {dA : Nat → ClassId} {s0 : State} {b0 : Addr} (Z : Z0 l dC dI dA s0 b0) (A : Nat → Prop) (sz : Nat) (hA : ∀ q : Nat, sz ≤ q → A q) {σ : Nat → Nat} (Y : SS (dC, dI) dA σ s0) (xa : Nat → Nat) (tl : Nat) (ec ep : Int32) (ga sg : Nat) (sr : Nat → Nat) (p0 q0 r0 : Nat) (rm rr : Nat → Nat) (Ms : Nat → MV) (a b : Int32) (sR : ∀ k, k < 8 → MSm (Ms k)) (pR : ∀ k, k < 8 → MSp (2 ^ (p0 + q0 + r0)) (Ms k)) : vx_Met l yX1_denominator (ws_ yX1_denominator cX1_denominator 3 (some .int)) ({ frames := 9, cells := 6, slots := 60, locals := 540 } : Room) (gP [.ref (xa 0), .int a, .int b] s0 A (fun H => H.size = sz ∧ RO A (dC, dI) [((xa 0), .inr (3, xFs xa tl ec ep)), ((xa 3), .inr (4, [.ref ga, .ref (xa 7)]))] H ∧ RO A (dC, dI) [((xa 7), .inl (dA 4, 8, .inr (.inr (.inr (.inr (fun k => some (rm k)))))))] H ∧ AG A (dC, dI) dA ga sg sr p0 q0 r0 H ∧ RG A (dC, dI) dA rm rr Ms H)) (va_Qi (S := Unit) (fun r9 _ => denX p0 q0 r0 Ms a b = (nI 0, r9)) (B1 (dC, dI) A (fun _ => []) (fun _ _ => True)) A) (vx_X (S := Unit) (fun _ => True) (fun _ E _ _ => (E = "java/lang/IndexOutOfBoundsException" ∧ denX p0 q0 r0 Ms a b = (nI 1, nI 0))) A) 6 60 A := by
  refine vx_ofW (cc := cX1_denominator) (maxL := 3) (ret := (some .int)) (by decide) rfl ?_
  intro p e s m args below meth c s₁ B hml hnoH hv
  obtain ⟨hav, hG, hsz, hR0, hR1, hAG, hRG⟩ := hv
  have hx := B.exec
  have hb := B.bytes
  have hr := B.returns
  have hts := atoms_spec (ws := (ws_ yX1_denominator cX1_denominator 3 (some .int))) B.pre
  have hts : ∀ w ∈ lw_all, w.before _ s = true := fun w h => hts w (List.mem_cons_of_mem _ h)
  have hown : s.vm.findClass RX1 = some m.cls := findClass_of_methodNamed B.named
  have hlocks := B.notSynchronized
  have hK := hG.K Z
  subst hsz
  have hS : va_S A s.heap s.heap [] := va_S.rf
  have hP : va_P (dC, dI) vwCl [] s.heap := fun k q h => by simp at h
  have hD : va_D A [] := ⟨fun i j p q h => by simp at h, fun k q h => by simp at h⟩
  have hl := lv_entry ([.ref (xa 0), .int a, .int b]) (n := 3) (Nat.le_of_ble_eq_true rfl)
  rw [show entryFrame m args 3 = entryFrame m ([.ref (xa 0), .int a, .int b] : List Value).toArray 3 from by rw [hav], lg_entry_eq]
  generalize (lg_sl ([.ref (xa 0), .int a, .int b]) ++ List.replicate (3 - (lg_sl ([.ref (xa 0), .int a, .int b])).length) Slot.unset).toArray = ls at hl ⊢
  have hl : lv_has ls 3 [(0, .ref (xa 0)), (1, .int a), (2, .int b)] := hl
  generalize hQe : vx_MQ below _ _ _ s _ _ _ = Q
  change W p l e ({ frames := 9, cells := 6, slots := 60, locals := 540 } : Room) s m args below meth c s.heap [] 0 0 Q (F0 m 0 ls [])
  have hn := hAG.1
  have h5 := pow5 hn
  have hR2 := hAG.2.1
  refine lv_aload_n hx hb dX1_denominator_0 rfl (lv_at hl 0 rfl) ?_
  refine lv_iload_n hx hb dX1_denominator_1 rfl (lv_at hl 1 rfl) ?_
  refine lv_iload_n hx hb dX1_denominator_2 rfl (lv_at hl 2 rfl) ?_
  have hF9 := va_free (wc := []) hD hS (fun q h => hA q h) [] rfl
  refine x_r (wc := []) (wr := []) (vx_runV (As := [.int a, .int b]) (rest := []) ⟨hx, hb, hml, hown, hts⟩ (x1_term Z (va_A [] s.heap.size) s.heap.size (fun q h => Or.inr h) Y xa tl ec ep ga sg sr p0 q0 r0 rm rr Ms a b sR pR) (cwV 2 hts (lw_V q575 q577 qs3 q96 q578) rfl rfl rfl (by decide +kernel) ⟨Nat.le_of_ble_eq_true rfl, Nat.le_of_ble_eq_true rfl⟩) (gP_V (va_recv hK (hR0.up hS) (ci := 3) (q0 := 0) rfl rfl) hG hS (fun q _ h => hF9 q h) ⟨rfl, (hR0.to hS (fun q _ h => hF9 q h)), (hR1.to hS (fun q _ h => hF9 q h)), (hAG.to hS (fun q _ h => hF9 q h)), (hRG.to hS (fun q _ h => hF9 q h))⟩) rfl rfl hl.1 rfl (lv_room (Nat.le_of_ble_eq_true rfl)) dX1_denominator_3 ⟨by first | decide | omega | (show _ ≤ (6 : Nat); omega), by first | decide | omega | (show _ ≤ (60 : Nat); omega)⟩) hP hD hS hA [] [] rfl rfl (by decide) (by decide) (fun E ce q9 u9 t9 H locs ht9 hp9 hb9 hz hP hS h1 h2 h3 => ?_) (fun u9 ra9 H locs hq hX hz hk hP hD hS => ?_)
  · have hD := hD.sub (ws' := []) [] (by decide) rfl
    have hP : va_P (dC, dI) vwCl [] H := hP
    have hD : va_D A [] := hD
    subst hb9
    subst hQe
    exact vx_out (fun x h => (hnoH x h).elim) hlocks h1 h2 h3 (fun t10 e10 _ => ⟨(), trivial, (⟨rfl, den_1 hp9⟩), hS.F e10⟩) hS.2.2 (by first | decide | omega) (by first | decide | omega)
  obtain ⟨ra_1, rfl⟩ : ∃ z, z = ra9 := ⟨_, rfl⟩
  obtain ⟨ja, jb⟩ := u9
  obtain ⟨h7ja, h6jb, e8a, e8b⟩ := hq
  subst e8a
  subst e8b
  have hP : va_P (dC, dI) vwCl [(ra_1, .inr (5, [.int (nI jb), .long (Ms ja (jb + 1) / gcdL (Ms ja (jb + 1)) (Ms ja 0)), .long (Ms ja 0 / gcdL (Ms ja (jb + 1)) (Ms ja 0))]))] H := hP
  have hD : va_D A [(ra_1, .inr (5, [.int (nI jb), .long (Ms ja (jb + 1) / gcdL (Ms ja (jb + 1)) (Ms ja 0)), .long (Ms ja 0 / gcdL (Ms ja (jb + 1)) (Ms ja 0))]))] := hD
  refine va_getN (D := (dC, dI)) (ci := 5) (v := .long (Ms ja 0 / gcdL (Ms ja (jb + 1)) (Ms ja 0))) (C := RX9) (T := TX9) (N := 3) hx hb hts in_X9 hown hK hP 0 rfl rfl 2 (by decide) (((va_Nw.warmF hG.1 (va_Nw.of rfl (Z.2.1 _ q591)))).use rfl) (fun _ h9 => h9) rfl dX1_denominator_6 ?_
  refine lv_l2i (v := (Ms ja 0 / gcdL (Ms ja (jb + 1)) (Ms ja 0)).toInt32) hx hb dX1_denominator_9 rfl ?_
  subst hQe
  refine vx_ret ?_
  refine W.widen (k := 6) (n := 60) (by first | decide | omega) (by first | decide | omega) ?_
  exact W.iret (v := (Ms ja 0 / gcdL (Ms ja (jb + 1)) (Ms ja 0)).toInt32) hx hb hr (fun tz ht hW => ⟨⟨_, (), rfl, (den_ok hn h7ja h6jb), B1_at ht (hP.sub [] rfl) (hD.sub [] (by decide) rfl) trivial⟩, hS.F ht⟩) hS.2.2 dX1_denominator_10
set_option maxHeartbeats 4000000 in
theorem x1_commonDenominator {l : Launch} {dC : Nat → ClassId} {dI : Nat → Nat → Nat} {dA : Nat → ClassId} {s0 : State} {b0 : Addr} (Z : Z0 l dC dI dA s0 b0) (A : Nat → Prop) (sz : Nat) (hA : ∀ q : Nat, sz ≤ q → A q) {σ : Nat → Nat} (Y : SS (dC, dI) dA σ s0) (xa : Nat → Nat) (tl : Nat) (ec ep : Int32) (ga sg : Nat) (sr : Nat → Nat) (p0 q0 r0 : Nat) (rm rr : Nat → Nat) (Ms : Nat → MV) (a : Int32) (sR : ∀ k, k < 8 → MSm (Ms k)) (pR : ∀ k, k < 8 → MSp (2 ^ (p0 + q0 + r0)) (Ms k)) : vx_Met l yX1_commonDenominator (ws_ yX1_commonDenominator cX1_commonDenominator 2 (some .int)) ({ frames := 9, cells := 4, slots := 30, locals := 540 } : Room) (gP [.ref (xa 0), .int a] s0 A (fun H => H.size = sz ∧ RO A (dC, dI) [((xa 0), .inr (3, xFs xa tl ec ep)), ((xa 3), .inr (4, [.ref ga, .ref (xa 7)]))] H ∧ RO A (dC, dI) [((xa 7), .inl (dA 4, 8, .inr (.inr (.inr (.inr (fun k => some (rm k)))))))] H ∧ AG A (dC, dI) dA ga sg sr p0 q0 r0 H ∧ RG A (dC, dI) dA rm rr Ms H)) (va_Qi (S := Unit) (fun r9 _ => cdnX Ms a = (nI 0, r9)) (B1 (dC, dI) A (fun _ => []) (fun _ _ => True)) A) (vx_X (S := Unit) (fun _ => True) (fun _ E _ _ => (E = "java/lang/IndexOutOfBoundsException" ∧ cdnX Ms a = (nI 1, nI 0))) A) 4 30 A := by
  refine vx_ofW (cc := cX1_commonDenominator) (maxL := 2) (ret := (some .int)) (by decide) rfl ?_
  intro p e s m args below meth c s₁ B hml hnoH hv
  obtain ⟨hav, hG, hsz, hR0, hR1, hAG, hRG⟩ := hv
  have hx := B.exec
  have hb := B.bytes
  have hr := B.returns
  have hts := atoms_spec (ws := (ws_ yX1_commonDenominator cX1_commonDenominator 2 (some .int))) B.pre
  have hts : ∀ w ∈ lw_all, w.before _ s = true := fun w h => hts w (List.mem_cons_of_mem _ h)
  have hown : s.vm.findClass RX1 = some m.cls := findClass_of_methodNamed B.named
  have hlocks := B.notSynchronized
  have hK := hG.K Z
  subst hsz
  have hS : va_S A s.heap s.heap [] := va_S.rf
  have hP : va_P (dC, dI) vwCl [] s.heap := fun k q h => by simp at h
  have hD : va_D A [] := ⟨fun i j p q h => by simp at h, fun k q h => by simp at h⟩
  have hl := lv_entry ([.ref (xa 0), .int a]) (n := 2) (Nat.le_of_ble_eq_true rfl)
  rw [show entryFrame m args 2 = entryFrame m ([.ref (xa 0), .int a] : List Value).toArray 2 from by rw [hav], lg_entry_eq]
  generalize (lg_sl ([.ref (xa 0), .int a]) ++ List.replicate (2 - (lg_sl ([.ref (xa 0), .int a])).length) Slot.unset).toArray = ls at hl ⊢
  have hl : lv_has ls 2 [(0, .ref (xa 0)), (1, .int a)] := hl
  generalize hQe : vx_MQ below _ _ _ s _ _ _ = Q
  change W p l e ({ frames := 9, cells := 4, slots := 30, locals := 540 } : Room) s m args below meth c s.heap [] 0 0 Q (F0 m 0 ls [])
  have hn := hAG.1
  have h5 := pow5 hn
  have hR2 := hAG.2.1
  refine lv_iconst (v := nI 1) hx hb dX1_commonDenominator_0 (by decide) ?_
  refine a_newa (D := (dC, dI)) (atype := .int) (N' := 1) (a0 := (1, .inl (fun _ => 0))) hx hb (hts _ q230) rfl hK hP hD hS hA 0 rfl (fun _ => ra_int) (fun _ => rfl) (by decide) (by decide) (by decide) (by first | decide | omega) (by first | decide | omega) dX1_commonDenominator_1 (fun na_1 H locs hP hD hS => ?_)
  have hP : va_P (dC, dI) vwCl [(na_1, .inl (dA 0, 1, .inl (fun _ => 0)))] H := hP
  have hD : va_D A [(na_1, .inl (dA 0, 1, .inl (fun _ => 0)))] := hD
  refine lv_dup hx hb dX1_commonDenominator_3 rfl ?_
  refine lv_iconst (v := nI 0) hx hb dX1_commonDenominator_4 (by decide) ?_
  refine lv_iload_n hx hb dX1_commonDenominator_5 rfl (lv_at hl 1 rfl) ?_
  refine a_iast hx hb hK hP hD hS 0 0 rfl rfl (by omega) (by omega) dX1_commonDenominator_6 (fun H locs hP hD hS => ?_)
  have hP : va_P (dC, dI) vwCl [(na_1, .inl (dA 0, 1, .inl (upd (fun _ => 0) 0 a)))] H := hP
  have hD : va_D A [(na_1, .inl (dA 0, 1, .inl (upd (fun _ => 0) 0 a)))] := hD
  have hF9 := va_free (wc := []) hD hS (fun q h => hA q h) [] rfl
  refine x_v (wc := []) (wr := [(na_1, .inl (dA 0, 1, .inl (upd (fun _ => 0) 0 a)))]) (vx_runS (As := [.ref na_1]) (rest := []) ⟨hx, hb, hml, hown, hts⟩ (x1_registers Z (va_A [] H.size) H.size (fun q h => Or.inr h) Y na_1 1 (upd (fun _ => 0) 0 a) (by decide)) (va_cwS 1 hts (lw_S q469 q470 q96 q471) rfl rfl rfl (by decide +kernel) ⟨Nat.le_of_ble_eq_true rfl, Nat.le_of_ble_eq_true rfl⟩) (gP_S hG hS (fun q _ h => hF9 q h) ⟨rfl, (RO.beside (wr := [(na_1, .inl (dA 0, 1, .inl (upd (fun _ => 0) 0 a)))]) hP hD [] [0] rfl rfl (by decide))⟩) rfl rfl hl.1 rfl (lv_room (Nat.le_of_ble_eq_true rfl)) dX1_commonDenominator_7 ⟨by first | decide | omega | (show _ ≤ (4 : Nat); omega), by first | decide | omega | (show _ ≤ (30 : Nat); omega)⟩) hP hD hS hA [] [0] rfl rfl (by decide) (by decide) (fun E ce q9 u9 t9 H locs ht9 hp9 hb9 hz hP hS h1 h2 h3 => ?_) (fun u9 H locs hq hX hz hk hP hD hS => ?_)
  · have hD := hD.sub (ws' := [(na_1, .inl (dA 0, 1, .inl (upd (fun _ => 0) 0 a)))]) [0] (by decide) rfl
    have hP : va_P (dC, dI) vwCl [(na_1, .inl (dA 0, 1, .inl (upd (fun _ => 0) 0 a)))] H := hP
    have hD : va_D A [(na_1, .inl (dA 0, 1, .inl (upd (fun _ => 0) 0 a)))] := hD
    subst hb9
    subst hQe
    exact vx_out (fun x h => (hnoH x h).elim) hlocks h1 h2 h3 (fun t10 e10 _ => ⟨(), trivial, (⟨rfl, cdn_1 (rgs1.symm.trans hp9)⟩), hS.F e10⟩) hS.2.2 (by first | decide | omega) (by first | decide | omega)
  have hrg : (rgB a) = true := rgs1.symm.trans hq
  clear hq
  have hP : va_P (dC, dI) vwCl [(na_1, .inl (dA 0, 1, .inl (upd (fun _ => 0) 0 a)))] H := hP
  have hD : va_D A [(na_1, .inl (dA 0, 1, .inl (upd (fun _ => 0) 0 a)))] := hD
  have hP0 := hP.sub (ws' := []) [] rfl
  have hD0 := hD.sub (ws' := []) [] (by decide) rfl
  have h8ja := inB_nat (by decide) (show inB a (nI 0) (nI 7) = true from hrg)
  obtain ⟨ja, h9ja, e8ja⟩ := h8ja
  have h7ja : ja < 8 := by omega
  subst e8ja
  have hP := hP0
  have hD := hD0
  refine lv_aload_n hx hb dX1_commonDenominator_10 rfl (lv_at hl 0 rfl) ?_
  refine va_get (D := (dC, dI)) (ci := 3) (v := .ref (xa 3)) (C := RX1) (T := TX1) (N := 9) hx hb hts in_X1 hown hK (hR0.up hS) 0 rfl rfl 2 (by decide) (hts _ q286) (fun _ h9 => h9) rfl dX1_commonDenominator_11 ?_
  refine va_getN (D := (dC, dI)) (ci := 4) (v := .ref (xa 7)) (C := RX4) (T := TX4) (N := 2) hx hb hts in_X4 hown hK (hR0.up hS) 1 rfl rfl 1 (by decide) (((va_Nw.warmF hG.1 (va_Nw.of rfl (Z.2.1 _ q243)))).use rfl) (fun _ h9 => h9) rfl dX1_commonDenominator_14 ?_
  refine lv_iload_n hx hb dX1_commonDenominator_17 rfl (lv_at hl 1 rfl) ?_
  refine a_aldq hx hb hK (hR1.up hS) 0 4 rfl rfl (by omega) (by decide) dX1_commonDenominator_18 ?_
  refine e_v (y := .ref (rm ja)) (rfl) ?_
  have hR3 := hRG ja (by omega)
  refine va_getN (D := (dC, dI)) (ci := 0) (v := .long (Ms ja 0)) (C := RX6) (T := TX6) (N := 2) hx hb hts in_X6 hown hK (hR3.up hS) 0 rfl rfl 1 (by decide) (((va_Nw.warmF hG.1 (va_Nw.of rfl (Z.2.1 _ q556)))).use rfl) (fun _ h9 => h9) rfl dX1_commonDenominator_19 ?_
  refine lv_l2i (v := (Ms ja 0).toInt32) hx hb dX1_commonDenominator_22 rfl ?_
  subst hQe
  refine vx_ret ?_
  refine W.widen (k := 4) (n := 30) (by first | decide | omega) (by first | decide | omega) ?_
  exact W.iret (v := (Ms ja 0).toInt32) hx hb hr (fun tz ht hW => ⟨⟨_, (), rfl, (cdn_ok h7ja), B1_at ht (hP.sub [] rfl) (hD.sub [] (by decide) rfl) trivial⟩, hS.F ht⟩) hS.2.2 dX1_commonDenominator_23
set_option maxHeartbeats 4000000 in
theorem x1_sign {l : Launch} {dC : Nat → ClassId} {dI : Nat → Nat → Nat} {dA : Nat → ClassId} {s0 : State} {b0 : Addr} (Z : Z0 l dC dI dA s0 b0) (A : Nat → Prop) (sz : Nat) (hA : ∀ q : Nat, sz ≤ q → A q) {σ : Nat → Nat} (Y : SS (dC, dI) dA σ s0) (xa : Nat → Nat) (tl : Nat) (ec ep : Int32) (ga sg : Nat) (sr : Nat → Nat) (p0 q0 r0 : Nat) (a b : Int32) : vx_Met l yX1_sign (ws_ yX1_sign cX1_sign 3 (some .int)) ({ frames := 9, cells := 2, slots := 12, locals := 540 } : Room) (gP [.ref (xa 0), .int a, .int b] s0 A (fun H => H.size = sz ∧ RO A (dC, dI) [((xa 0), .inr (3, xFs xa tl ec ep)), ((xa 3), .inr (4, [.ref ga, .ref (xa 7)]))] H ∧ AG A (dC, dI) dA ga sg sr p0 q0 r0 H)) (va_Qi (S := Unit) (fun r9 _ => sgnX p0 q0 r0 a b = (nI 0, r9)) (B1 (dC, dI) A (fun _ => []) (fun _ _ => True)) A) (vx_X (S := Unit) (fun _ => True) (fun _ E _ _ => (E = "java/lang/IndexOutOfBoundsException" ∧ sgnX p0 q0 r0 a b = (nI 1, nI 0))) A) 2 12 A := by
  refine vx_ofW (cc := cX1_sign) (maxL := 3) (ret := (some .int)) (by decide) rfl ?_
  intro p e s m args below meth c s₁ B hml hnoH hv
  obtain ⟨hav, hG, hsz, hR0, hAG⟩ := hv
  have hx := B.exec
  have hb := B.bytes
  have hr := B.returns
  have hts := atoms_spec (ws := (ws_ yX1_sign cX1_sign 3 (some .int))) B.pre
  have hts : ∀ w ∈ lw_all, w.before _ s = true := fun w h => hts w (List.mem_cons_of_mem _ h)
  have hown : s.vm.findClass RX1 = some m.cls := findClass_of_methodNamed B.named
  have hlocks := B.notSynchronized
  have hK := hG.K Z
  subst hsz
  have hS : va_S A s.heap s.heap [] := va_S.rf
  have hP : va_P (dC, dI) vwCl [] s.heap := fun k q h => by simp at h
  have hD : va_D A [] := ⟨fun i j p q h => by simp at h, fun k q h => by simp at h⟩
  have hl := lv_entry ([.ref (xa 0), .int a, .int b]) (n := 3) (Nat.le_of_ble_eq_true rfl)
  rw [show entryFrame m args 3 = entryFrame m ([.ref (xa 0), .int a, .int b] : List Value).toArray 3 from by rw [hav], lg_entry_eq]
  generalize (lg_sl ([.ref (xa 0), .int a, .int b]) ++ List.replicate (3 - (lg_sl ([.ref (xa 0), .int a, .int b])).length) Slot.unset).toArray = ls at hl ⊢
  have hl : lv_has ls 3 [(0, .ref (xa 0)), (1, .int a), (2, .int b)] := hl
  generalize hQe : vx_MQ below _ _ _ s _ _ _ = Q
  change W p l e ({ frames := 9, cells := 2, slots := 12, locals := 540 } : Room) s m args below meth c s.heap [] 0 0 Q (F0 m 0 ls [])
  have hn := hAG.1
  have h5 := pow5 hn
  have hR1 := hAG.2.1
  refine lv_aload_n hx hb dX1_sign_0 rfl (lv_at hl 0 rfl) ?_
  refine lv_iload_n hx hb dX1_sign_1 rfl (lv_at hl 1 rfl) ?_
  have hF9 := va_free (wc := []) hD hS (fun q h => hA q h) [] rfl
  refine x_v (wc := []) (wr := []) (vx_runV (As := [.int a]) (rest := []) ⟨hx, hb, hml, hown, hts⟩ (x1_blade Z (va_A [] s.heap.size) s.heap.size (fun q h => Or.inr h) Y xa tl ec ep ga sg sr p0 q0 r0 0 a) (cwV 1 hts (lw_V q489 q491 qs2 q96 q492) rfl rfl rfl (by decide +kernel) ⟨Nat.le_of_ble_eq_true rfl, Nat.le_of_ble_eq_true rfl⟩) (gP_V (va_recv hK (hR0.up hS) (ci := 3) (q0 := 0) rfl rfl) hG hS (fun q _ h => hF9 q h) ⟨rfl, (hR0.to hS (fun q _ h => hF9 q h)), (hAG.to hS (fun q _ h => hF9 q h))⟩) rfl rfl hl.1 rfl (lv_room (Nat.le_of_ble_eq_true rfl)) dX1_sign_2 ⟨by first | decide | omega | (show _ ≤ (2 : Nat); omega), by first | decide | omega | (show _ ≤ (12 : Nat); omega)⟩) hP hD hS hA [] [] rfl rfl (by decide) (by decide) (fun E ce q9 u9 t9 H locs ht9 hp9 hb9 hz hP hS h1 h2 h3 => ?_) (fun u9 H locs hq hX hz hk hP hD hS => ?_)
  · have hD := hD.sub (ws' := []) [] (by decide) rfl
    have hP : va_P (dC, dI) vwCl [] H := hP
    have hD : va_D A [] := hD
    subst hb9
    subst hQe
    exact vx_out (fun x h => (hnoH x h).elim) hlocks h1 h2 h3 (fun t10 e10 _ => ⟨(), trivial, ⟨rfl, sgn_1 (by rw [hp9, Bool.false_and])⟩, hS.F e10⟩) hS.2.2 (by first | decide | omega) (by first | decide | omega)
  have hbl2 := hq
  clear hq
  have hP : va_P (dC, dI) vwCl [] H := hP
  have hD : va_D A [] := hD
  refine lv_aload_n hx hb dX1_sign_5 rfl (lv_at hl 0 rfl) ?_
  refine lv_iload_n hx hb dX1_sign_6 rfl (lv_at hl 2 rfl) ?_
  have hF9 := va_free (wc := []) hD hS (fun q h => hA q h) [] rfl
  refine x_v (wc := []) (wr := []) (vx_runV (As := [.int b]) (rest := []) ⟨hx, hb, hml, hown, hts⟩ (x1_blade Z (va_A [] H.size) H.size (fun q h => Or.inr h) Y xa tl ec ep ga sg sr p0 q0 r0 0 b) (cwV 1 hts (lw_V q489 q491 qs2 q96 q492) rfl rfl rfl (by decide +kernel) ⟨Nat.le_of_ble_eq_true rfl, Nat.le_of_ble_eq_true rfl⟩) (gP_V (va_recv hK (hR0.up hS) (ci := 3) (q0 := 0) rfl rfl) hG hS (fun q _ h => hF9 q h) ⟨rfl, (hR0.to hS (fun q _ h => hF9 q h)), (hAG.to hS (fun q _ h => hF9 q h))⟩) rfl rfl hl.1 rfl (lv_room (Nat.le_of_ble_eq_true rfl)) dX1_sign_7 ⟨by first | decide | omega | (show _ ≤ (2 : Nat); omega), by first | decide | omega | (show _ ≤ (12 : Nat); omega)⟩) hP hD hS hA [] [] rfl rfl (by decide) (by decide) (fun E ce q9 u9 t9 H locs ht9 hp9 hb9 hz hP hS h1 h2 h3 => ?_) (fun u9 H locs hq hX hz hk hP hD hS => ?_)
  · have hD := hD.sub (ws' := []) [] (by decide) rfl
    have hP : va_P (dC, dI) vwCl [] H := hP
    have hD : va_D A [] := hD
    subst hb9
    subst hQe
    exact vx_out (fun x h => (hnoH x h).elim) hlocks h1 h2 h3 (fun t10 e10 _ => ⟨(), trivial, ⟨rfl, sgn_1 (by rw [hp9, Bool.and_false])⟩, hS.F e10⟩) hS.2.2 (by first | decide | omega) (by first | decide | omega)
  have hbl7 := hq
  clear hq
  have hP : va_P (dC, dI) vwCl [] H := hP
  have hD : va_D A [] := hD
  obtain ⟨ja, h9ja, e8ja⟩ := inB_nat (by omega) hbl2
  have hP0 := hP
  have hD0 := hD
  subst e8ja
  have hP := hP0
  have hD := hD0
  have h6ja : ja < 2 ^ (p0 + q0 + r0) := by omega
  obtain ⟨jb, h9jb, e8jb⟩ := inB_nat (by omega) hbl7
  have hP0 := hP
  have hD0 := hD
  subst e8jb
  have hP := hP0
  have hD := hD0
  have h6jb : jb < 2 ^ (p0 + q0 + r0) := by omega
  refine lv_aload_n hx hb dX1_sign_10 rfl (lv_at hl 0 rfl) ?_
  refine va_get (D := (dC, dI)) (ci := 3) (v := .ref (xa 3)) (C := RX1) (T := TX1) (N := 9) hx hb hts in_X1 hown hK (hR0.up hS) 0 rfl rfl 2 (by decide) (hts _ q286) (fun _ h9 => h9) rfl dX1_sign_11 ?_
  refine va_getN (D := (dC, dI)) (ci := 4) (v := .ref ga) (C := RX4) (T := TX4) (N := 2) hx hb hts in_X4 hown hK (hR0.up hS) 1 rfl rfl 0 (by decide) (((va_Nw.warmF hG.1 (va_Nw.of rfl (Z.2.1 _ q240)))).use rfl) (fun _ h9 => h9) rfl dX1_sign_14 ?_
  refine va_getN (D := (dC, dI)) (ci := 1) (v := .ref sg) (C := RX5) (T := TX5) (N := 6) hx hb hts in_X5 hown hK (hR1.up hS) 0 rfl rfl 5 (by decide) (((va_Nw.warmF hG.1 (va_Nw.of rfl (Z.2.1 _ q216)))).use rfl) (fun _ h9 => h9) rfl dX1_sign_17 ?_
  refine lv_iload_n hx hb dX1_sign_20 rfl (lv_at hl 1 rfl) ?_
  refine a_aldr hx hb hK (hR1.up hS) 1 9 rfl rfl (by omega) (by decide) dX1_sign_21 ?_
  refine e_v (y := .ref (sr ja)) (rfl) ?_
  have hR2 := hAG.2.2 ja (by omega)
  refine lv_iload_n hx hb dX1_sign_22 rfl (lv_at hl 2 rfl) ?_
  refine a_iald hx hb hK (hR2.up hS) 0 0 rfl rfl (by omega) (by omega) dX1_sign_23 ?_
  refine e_i (y := sgS p0 q0 r0 ja jb) (if_pos ⟨by omega, by omega⟩) ?_
  subst hQe
  refine vx_ret ?_
  refine W.widen (k := 2) (n := 12) (by first | decide | omega) (by first | decide | omega) ?_
  exact W.iret (v := sgS p0 q0 r0 ja jb) hx hb hr (fun tz ht hW => ⟨⟨_, (), rfl, sgn_ok hn h6ja h6jb, B1_at ht (hP.sub [] rfl) (hD.sub [] (by decide) rfl) trivial⟩, hS.F ht⟩) hS.2.2 dX1_sign_24
set_option maxHeartbeats 4000000 in
theorem x1_signature {l : Launch} {dC : Nat → ClassId} {dI : Nat → Nat → Nat} {dA : Nat → ClassId} {s0 : State} {b0 : Addr} (Z : Z0 l dC dI dA s0 b0) (A : Nat → Prop) (sz : Nat) (hA : ∀ q : Nat, sz ≤ q → A q) {σ : Nat → Nat} (Y : SS (dC, dI) dA σ s0) (xa : Nat → Nat) (tl : Nat) (ec ep : Int32) (ga sg : Nat) (sr : Nat → Nat) (p0 q0 r0 : Nat) (a : Int32) : vx_Met l yX1_signature (ws_ yX1_signature cX1_signature 2 (some .int)) ({ frames := 7, cells := 1, slots := 6, locals := 420 } : Room) (gP [.ref (xa 0), .int a] s0 A (fun H => H.size = sz ∧ RO A (dC, dI) [((xa 0), .inr (3, xFs xa tl ec ep)), ((xa 3), .inr (4, [.ref ga, .ref (xa 7)]))] H ∧ AG A (dC, dI) dA ga sg sr p0 q0 r0 H)) (va_Qi (S := Unit) (fun r9 _ => sigX p0 q0 r0 a = (nI 0, r9)) (B1 (dC, dI) A (fun _ => []) (fun _ _ => True)) A) (vx_X (S := Unit) (fun _ => True) (fun _ E _ _ => (E = "java/lang/IllegalArgumentException" ∧ sigX p0 q0 r0 a = (nI 1, nI 0))) A) 1 6 A := by
  refine vx_ofW (cc := cX1_signature) (maxL := 2) (ret := (some .int)) (by decide) rfl ?_
  intro p e s m args below meth c s₁ B hml hnoH hv
  obtain ⟨hav, hG, hsz, hR0, hAG⟩ := hv
  have hx := B.exec
  have hb := B.bytes
  have hr := B.returns
  have hts := atoms_spec (ws := (ws_ yX1_signature cX1_signature 2 (some .int))) B.pre
  have hts : ∀ w ∈ lw_all, w.before _ s = true := fun w h => hts w (List.mem_cons_of_mem _ h)
  have hown : s.vm.findClass RX1 = some m.cls := findClass_of_methodNamed B.named
  have hlocks := B.notSynchronized
  have hK := hG.K Z
  subst hsz
  have hS : va_S A s.heap s.heap [] := va_S.rf
  have hP : va_P (dC, dI) vwCl [] s.heap := fun k q h => by simp at h
  have hD : va_D A [] := ⟨fun i j p q h => by simp at h, fun k q h => by simp at h⟩
  have hl := lv_entry ([.ref (xa 0), .int a]) (n := 2) (Nat.le_of_ble_eq_true rfl)
  rw [show entryFrame m args 2 = entryFrame m ([.ref (xa 0), .int a] : List Value).toArray 2 from by rw [hav], lg_entry_eq]
  generalize (lg_sl ([.ref (xa 0), .int a]) ++ List.replicate (2 - (lg_sl ([.ref (xa 0), .int a])).length) Slot.unset).toArray = ls at hl ⊢
  have hl : lv_has ls 2 [(0, .ref (xa 0)), (1, .int a)] := hl
  generalize hQe : vx_MQ below _ _ _ s _ _ _ = Q
  change W p l e ({ frames := 7, cells := 1, slots := 6, locals := 420 } : Room) s m args below meth c s.heap [] 0 0 Q (F0 m 0 ls [])
  have hn := hAG.1
  have h5 := pow5 hn
  have hR1 := hAG.2.1
  refine lv_iload_n hx hb dX1_signature_0 rfl (lv_at hl 1 rfl) ?_
  refine lv_i2l (v := a.toInt64) hx hb dX1_signature_1 rfl ?_
  refine lv_lconst (v := 0) hx hb dX1_signature_2 rfl ?_
  refine lv_ldc2 hx hb hown (hts _ q422) dX1_signature_3 ?_
  refine s_i (va_runS (As := [.long a.toInt64, .long 0, .long (3 : Int64)]) (rest := []) ⟨hx, hb, hml, hown, hts⟩ (x1_isIn Z a.toInt64 0 (3 : Int64)) (va_cwS 3 hts (lw_S q332 q333 q96 q334) rfl rfl rfl (by decide +kernel) ⟨Nat.le_of_ble_eq_true rfl, Nat.le_of_ble_eq_true rfl⟩) (gP_S hG hS (fun q _ h => h.elim) trivial) rfl rfl hl.1 rfl (lv_room (Nat.le_of_ble_eq_true rfl)) dX1_signature_6 ⟨by first | decide | omega | (show _ ≤ (1 : Nat); omega), by first | decide | omega | (show _ ≤ (6 : Nat); omega)⟩) ?_
  refine e_i (y := bI (inB a (nI 0) (nI 3))) (congrArg bI (inL_B a (nI 0) (nI 3))) ?_
  have hF9 := va_free (wc := []) hD hS (fun q h => hA q h) [] rfl
  refine x_v (wc := []) (wr := []) (vx_runS (As := [.int (bI (inB a (nI 0) (nI 3)))]) (rest := []) ⟨hx, hb, hml, hown, hts⟩ (x1_argument Z (va_A [] s.heap.size) s.heap.size (fun q h => Or.inr h) (SS.st Y) (σ 51) (SS.st1 Y) (inB a (nI 0) (nI 3))) (va_cwS 1 hts (lw_S q335 q336 q96 q337) rfl rfl rfl (by decide +kernel) ⟨Nat.le_of_ble_eq_true rfl, Nat.le_of_ble_eq_true rfl⟩) (gP_S hG hS (fun q _ h => hF9 q h) rfl) rfl rfl hl.1 rfl (lv_room (Nat.le_of_ble_eq_true rfl)) dX1_signature_9 ⟨by first | decide | omega | (show _ ≤ (1 : Nat); omega), by first | decide | omega | (show _ ≤ (6 : Nat); omega)⟩) hP hD hS hA [] [] rfl rfl (by decide) (by decide) (fun E ce q9 u9 t9 H locs ht9 hp9 hb9 hz hP hS h1 h2 h3 => ?_) (fun u9 H locs hq hX hz hk hP hD hS => ?_)
  · have hD := hD.sub (ws' := []) [] (by decide) rfl
    have hP : va_P (dC, dI) vwCl [] H := hP
    have hD : va_D A [] := hD
    subst hb9
    subst hQe
    exact vx_out (fun x h => (hnoH x h).elim) hlocks h1 h2 h3 (fun t10 e10 _ => ⟨(), trivial, ⟨rfl, sig_1 hp9⟩, hS.F e10⟩) hS.2.2 (by first | decide | omega) (by first | decide | omega)
  have hg9 : (inB a (nI 0) (nI 3)) = true := hq
  clear hq
  have hP : va_P (dC, dI) vwCl [] H := hP
  have hD : va_D A [] := hD
  obtain ⟨ja, h9ja, e8ja⟩ := inB_nat (by decide) hg9
  subst e8ja
  rcases (show ja = 0 ∨ ja = 1 ∨ ja = 2 ∨ ja = 3 by omega) with rfl | rfl | rfl | rfl
  · refine lv_iload_n hx hb dX1_signature_12 rfl (lv_at hl 1 rfl) ?_
    refine lv_tableIn (off := 27) (tgt := 40) hx hb dX1_signature_13 (by decide) (by decide) rfl (by decide) ?_
    refine lv_aload_n hx hb dX1_signature_40 rfl (lv_at hl 0 rfl) ?_
    refine va_get (D := (dC, dI)) (ci := 3) (v := .ref (xa 3)) (C := RX1) (T := TX1) (N := 9) hx hb hts in_X1 hown hK (hR0.up hS) 0 rfl rfl 2 (by decide) (hts _ q286) (fun _ h9 => h9) rfl dX1_signature_41 ?_
    refine va_getN (D := (dC, dI)) (ci := 4) (v := .ref ga) (C := RX4) (T := TX4) (N := 2) hx hb hts in_X4 hown hK (hR0.up hS) 1 rfl rfl 0 (by decide) (((va_Nw.warmF hG.1 (va_Nw.of rfl (Z.2.1 _ q240)))).use rfl) (fun _ h9 => h9) rfl dX1_signature_44 ?_
    refine va_getN (D := (dC, dI)) (ci := 1) (v := .int (nI p0)) (C := RX5) (T := TX5) (N := 6) hx hb hts in_X5 hown hK (hR1.up hS) 0 rfl rfl 0 (by decide) (((va_Nw.warmF hG.1 (va_Nw.of rfl (Z.2.1 _ q201)))).use rfl) (fun _ h9 => h9) rfl dX1_signature_47 ?_
    refine lv_goto (tgt := 89) hx hb dX1_signature_50 (by decide) ?_
    subst hQe
    refine vx_ret ?_
    refine W.widen (k := 1) (n := 6) (by first | decide | omega) (by first | decide | omega) ?_
    exact W.iret (v := nI p0) hx hb hr (fun tz ht hW => ⟨⟨_, (), rfl, rfl, B1_at ht (hP.sub [] rfl) (hD.sub [] (by decide) rfl) trivial⟩, hS.F ht⟩) hS.2.2 dX1_signature_89
  · refine lv_iload_n hx hb dX1_signature_12 rfl (lv_at hl 1 rfl) ?_
    refine lv_tableIn (off := 40) (tgt := 53) hx hb dX1_signature_13 (by decide) (by decide) rfl (by decide) ?_
    refine lv_aload_n hx hb dX1_signature_53 rfl (lv_at hl 0 rfl) ?_
    refine va_get (D := (dC, dI)) (ci := 3) (v := .ref (xa 3)) (C := RX1) (T := TX1) (N := 9) hx hb hts in_X1 hown hK (hR0.up hS) 0 rfl rfl 2 (by decide) (hts _ q286) (fun _ h9 => h9) rfl dX1_signature_54 ?_
    refine va_getN (D := (dC, dI)) (ci := 4) (v := .ref ga) (C := RX4) (T := TX4) (N := 2) hx hb hts in_X4 hown hK (hR0.up hS) 1 rfl rfl 0 (by decide) (((va_Nw.warmF hG.1 (va_Nw.of rfl (Z.2.1 _ q240)))).use rfl) (fun _ h9 => h9) rfl dX1_signature_57 ?_
    refine va_getN (D := (dC, dI)) (ci := 1) (v := .int (nI q0)) (C := RX5) (T := TX5) (N := 6) hx hb hts in_X5 hown hK (hR1.up hS) 0 rfl rfl 1 (by decide) (((va_Nw.warmF hG.1 (va_Nw.of rfl (Z.2.1 _ q203)))).use rfl) (fun _ h9 => h9) rfl dX1_signature_60 ?_
    refine lv_goto (tgt := 89) hx hb dX1_signature_63 (by decide) ?_
    subst hQe
    refine vx_ret ?_
    refine W.widen (k := 1) (n := 6) (by first | decide | omega) (by first | decide | omega) ?_
    exact W.iret (v := nI q0) hx hb hr (fun tz ht hW => ⟨⟨_, (), rfl, rfl, B1_at ht (hP.sub [] rfl) (hD.sub [] (by decide) rfl) trivial⟩, hS.F ht⟩) hS.2.2 dX1_signature_89
  · refine lv_iload_n hx hb dX1_signature_12 rfl (lv_at hl 1 rfl) ?_
    refine lv_tableIn (off := 53) (tgt := 66) hx hb dX1_signature_13 (by decide) (by decide) rfl (by decide) ?_
    refine lv_aload_n hx hb dX1_signature_66 rfl (lv_at hl 0 rfl) ?_
    refine va_get (D := (dC, dI)) (ci := 3) (v := .ref (xa 3)) (C := RX1) (T := TX1) (N := 9) hx hb hts in_X1 hown hK (hR0.up hS) 0 rfl rfl 2 (by decide) (hts _ q286) (fun _ h9 => h9) rfl dX1_signature_67 ?_
    refine va_getN (D := (dC, dI)) (ci := 4) (v := .ref ga) (C := RX4) (T := TX4) (N := 2) hx hb hts in_X4 hown hK (hR0.up hS) 1 rfl rfl 0 (by decide) (((va_Nw.warmF hG.1 (va_Nw.of rfl (Z.2.1 _ q240)))).use rfl) (fun _ h9 => h9) rfl dX1_signature_70 ?_
    refine va_getN (D := (dC, dI)) (ci := 1) (v := .int (nI r0)) (C := RX5) (T := TX5) (N := 6) hx hb hts in_X5 hown hK (hR1.up hS) 0 rfl rfl 2 (by decide) (((va_Nw.warmF hG.1 (va_Nw.of rfl (Z.2.1 _ q206)))).use rfl) (fun _ h9 => h9) rfl dX1_signature_73 ?_
    refine lv_goto (tgt := 89) hx hb dX1_signature_76 (by decide) ?_
    subst hQe
    refine vx_ret ?_
    refine W.widen (k := 1) (n := 6) (by first | decide | omega) (by first | decide | omega) ?_
    exact W.iret (v := nI r0) hx hb hr (fun tz ht hW => ⟨⟨_, (), rfl, rfl, B1_at ht (hP.sub [] rfl) (hD.sub [] (by decide) rfl) trivial⟩, hS.F ht⟩) hS.2.2 dX1_signature_89
  · refine lv_iload_n hx hb dX1_signature_12 rfl (lv_at hl 1 rfl) ?_
    refine lv_tableOut (tgt := 79) hx hb dX1_signature_13 (by decide) (by decide) ?_
    refine lv_aload_n hx hb dX1_signature_79 rfl (lv_at hl 0 rfl) ?_
    refine va_get (D := (dC, dI)) (ci := 3) (v := .ref (xa 3)) (C := RX1) (T := TX1) (N := 9) hx hb hts in_X1 hown hK (hR0.up hS) 0 rfl rfl 2 (by decide) (hts _ q286) (fun _ h9 => h9) rfl dX1_signature_80 ?_
    refine va_getN (D := (dC, dI)) (ci := 4) (v := .ref ga) (C := RX4) (T := TX4) (N := 2) hx hb hts in_X4 hown hK (hR0.up hS) 1 rfl rfl 0 (by decide) (((va_Nw.warmF hG.1 (va_Nw.of rfl (Z.2.1 _ q240)))).use rfl) (fun _ h9 => h9) rfl dX1_signature_83 ?_
    refine va_getN (D := (dC, dI)) (ci := 1) (v := .int (nI (p0 + q0 + r0))) (C := RX5) (T := TX5) (N := 6) hx hb hts in_X5 hown hK (hR1.up hS) 0 rfl rfl 3 (by decide) (((va_Nw.warmF hG.1 (va_Nw.of rfl (Z.2.1 _ q209)))).use rfl) (fun _ h9 => h9) rfl dX1_signature_86 ?_
    subst hQe
    refine vx_ret ?_
    refine W.widen (k := 1) (n := 6) (by first | decide | omega) (by first | decide | omega) ?_
    exact W.iret (v := nI (p0 + q0 + r0)) hx hb hr (fun tz ht hW => ⟨⟨_, (), rfl, rfl, B1_at ht (hP.sub [] rfl) (hD.sub [] (by decide) rfl) trivial⟩, hS.F ht⟩) hS.2.2 dX1_signature_89
set_option maxHeartbeats 4000000 in
theorem x1_grades {l : Launch} {dC : Nat → ClassId} {dI : Nat → Nat → Nat} {dA : Nat → ClassId} {s0 : State} {b0 : Addr} (Z : Z0 l dC dI dA s0 b0) (A : Nat → Prop) (sz : Nat) (hA : ∀ q : Nat, sz ≤ q → A q) {σ : Nat → Nat} (Y : SS (dC, dI) dA σ s0) (xa : Nat → Nat) (tl : Nat) (ec ep : Int32) (ga sg : Nat) (sr : Nat → Nat) (p0 q0 r0 : Nat) (rm rr : Nat → Nat) (Ms : Nat → MV) (a : Int32) (sR : ∀ k, k < 8 → MSm (Ms k)) (pR : ∀ k, k < 8 → MSp (2 ^ (p0 + q0 + r0)) (Ms k)) : vx_Met l yX1_grades (ws_ yX1_grades cX1_grades 2 (some .int)) ({ frames := 9, cells := 4, slots := 30, locals := 540 } : Room) (gP [.ref (xa 0), .int a] s0 A (fun H => H.size = sz ∧ RO A (dC, dI) [((xa 0), .inr (3, xFs xa tl ec ep)), ((xa 3), .inr (4, [.ref ga, .ref (xa 7)]))] H ∧ RO A (dC, dI) [((xa 7), .inl (dA 4, 8, .inr (.inr (.inr (.inr (fun k => some (rm k)))))))] H ∧ AG A (dC, dI) dA ga sg sr p0 q0 r0 H ∧ RG A (dC, dI) dA rm rr Ms H)) (va_Qi (S := Unit) (fun r9 _ => grsX Ms a = (nI 0, r9)) (B1 (dC, dI) A (fun _ => []) (fun _ _ => True)) A) (vx_X (S := Unit) (fun _ => True) (fun _ E _ _ => (E = "java/lang/IndexOutOfBoundsException" ∧ grsX Ms a = (nI 1, nI 0))) A) 4 30 A := by
  refine vx_ofW (cc := cX1_grades) (maxL := 2) (ret := (some .int)) (by decide) rfl ?_
  intro p e s m args below meth c s₁ B hml hnoH hv
  obtain ⟨hav, hG, hsz, hR0, hR1, hAG, hRG⟩ := hv
  have hx := B.exec
  have hb := B.bytes
  have hr := B.returns
  have hts := atoms_spec (ws := (ws_ yX1_grades cX1_grades 2 (some .int))) B.pre
  have hts : ∀ w ∈ lw_all, w.before _ s = true := fun w h => hts w (List.mem_cons_of_mem _ h)
  have hown : s.vm.findClass RX1 = some m.cls := findClass_of_methodNamed B.named
  have hlocks := B.notSynchronized
  have hK := hG.K Z
  subst hsz
  have hS : va_S A s.heap s.heap [] := va_S.rf
  have hP : va_P (dC, dI) vwCl [] s.heap := fun k q h => by simp at h
  have hD : va_D A [] := ⟨fun i j p q h => by simp at h, fun k q h => by simp at h⟩
  have hl := lv_entry ([.ref (xa 0), .int a]) (n := 2) (Nat.le_of_ble_eq_true rfl)
  rw [show entryFrame m args 2 = entryFrame m ([.ref (xa 0), .int a] : List Value).toArray 2 from by rw [hav], lg_entry_eq]
  generalize (lg_sl ([.ref (xa 0), .int a]) ++ List.replicate (2 - (lg_sl ([.ref (xa 0), .int a])).length) Slot.unset).toArray = ls at hl ⊢
  have hl : lv_has ls 2 [(0, .ref (xa 0)), (1, .int a)] := hl
  generalize hQe : vx_MQ below _ _ _ s _ _ _ = Q
  change W p l e ({ frames := 9, cells := 4, slots := 30, locals := 540 } : Room) s m args below meth c s.heap [] 0 0 Q (F0 m 0 ls [])
  have hn := hAG.1
  have h5 := pow5 hn
  have hR2 := hAG.2.1
  refine lv_iconst (v := nI 1) hx hb dX1_grades_0 (by decide) ?_
  refine a_newa (D := (dC, dI)) (atype := .int) (N' := 1) (a0 := (1, .inl (fun _ => 0))) hx hb (hts _ q230) rfl hK hP hD hS hA 0 rfl (fun _ => ra_int) (fun _ => rfl) (by decide) (by decide) (by decide) (by first | decide | omega) (by first | decide | omega) dX1_grades_1 (fun na_1 H locs hP hD hS => ?_)
  have hP : va_P (dC, dI) vwCl [(na_1, .inl (dA 0, 1, .inl (fun _ => 0)))] H := hP
  have hD : va_D A [(na_1, .inl (dA 0, 1, .inl (fun _ => 0)))] := hD
  refine lv_dup hx hb dX1_grades_3 rfl ?_
  refine lv_iconst (v := nI 0) hx hb dX1_grades_4 (by decide) ?_
  refine lv_iload_n hx hb dX1_grades_5 rfl (lv_at hl 1 rfl) ?_
  refine a_iast hx hb hK hP hD hS 0 0 rfl rfl (by omega) (by omega) dX1_grades_6 (fun H locs hP hD hS => ?_)
  have hP : va_P (dC, dI) vwCl [(na_1, .inl (dA 0, 1, .inl (upd (fun _ => 0) 0 a)))] H := hP
  have hD : va_D A [(na_1, .inl (dA 0, 1, .inl (upd (fun _ => 0) 0 a)))] := hD
  have hF9 := va_free (wc := []) hD hS (fun q h => hA q h) [] rfl
  refine x_v (wc := []) (wr := [(na_1, .inl (dA 0, 1, .inl (upd (fun _ => 0) 0 a)))]) (vx_runS (As := [.ref na_1]) (rest := []) ⟨hx, hb, hml, hown, hts⟩ (x1_registers Z (va_A [] H.size) H.size (fun q h => Or.inr h) Y na_1 1 (upd (fun _ => 0) 0 a) (by decide)) (va_cwS 1 hts (lw_S q469 q470 q96 q471) rfl rfl rfl (by decide +kernel) ⟨Nat.le_of_ble_eq_true rfl, Nat.le_of_ble_eq_true rfl⟩) (gP_S hG hS (fun q _ h => hF9 q h) ⟨rfl, (RO.beside (wr := [(na_1, .inl (dA 0, 1, .inl (upd (fun _ => 0) 0 a)))]) hP hD [] [0] rfl rfl (by decide))⟩) rfl rfl hl.1 rfl (lv_room (Nat.le_of_ble_eq_true rfl)) dX1_grades_7 ⟨by first | decide | omega | (show _ ≤ (4 : Nat); omega), by first | decide | omega | (show _ ≤ (30 : Nat); omega)⟩) hP hD hS hA [] [0] rfl rfl (by decide) (by decide) (fun E ce q9 u9 t9 H locs ht9 hp9 hb9 hz hP hS h1 h2 h3 => ?_) (fun u9 H locs hq hX hz hk hP hD hS => ?_)
  · have hD := hD.sub (ws' := [(na_1, .inl (dA 0, 1, .inl (upd (fun _ => 0) 0 a)))]) [0] (by decide) rfl
    have hP : va_P (dC, dI) vwCl [(na_1, .inl (dA 0, 1, .inl (upd (fun _ => 0) 0 a)))] H := hP
    have hD : va_D A [(na_1, .inl (dA 0, 1, .inl (upd (fun _ => 0) 0 a)))] := hD
    subst hb9
    subst hQe
    exact vx_out (fun x h => (hnoH x h).elim) hlocks h1 h2 h3 (fun t10 e10 _ => ⟨(), trivial, (⟨rfl, grs_1 (rgs1.symm.trans hp9)⟩), hS.F e10⟩) hS.2.2 (by first | decide | omega) (by first | decide | omega)
  have hrg : (rgB a) = true := rgs1.symm.trans hq
  clear hq
  have hP : va_P (dC, dI) vwCl [(na_1, .inl (dA 0, 1, .inl (upd (fun _ => 0) 0 a)))] H := hP
  have hD : va_D A [(na_1, .inl (dA 0, 1, .inl (upd (fun _ => 0) 0 a)))] := hD
  have hP0 := hP.sub (ws' := []) [] rfl
  have hD0 := hD.sub (ws' := []) [] (by decide) rfl
  have h8ja := inB_nat (by decide) (show inB a (nI 0) (nI 7) = true from hrg)
  obtain ⟨ja, h9ja, e8ja⟩ := h8ja
  have h7ja : ja < 8 := by omega
  subst e8ja
  have hP := hP0
  have hD := hD0
  refine lv_aload_n hx hb dX1_grades_10 rfl (lv_at hl 0 rfl) ?_
  refine va_get (D := (dC, dI)) (ci := 3) (v := .ref (xa 3)) (C := RX1) (T := TX1) (N := 9) hx hb hts in_X1 hown hK (hR0.up hS) 0 rfl rfl 2 (by decide) (hts _ q286) (fun _ h9 => h9) rfl dX1_grades_11 ?_
  refine va_getN (D := (dC, dI)) (ci := 4) (v := .ref (xa 7)) (C := RX4) (T := TX4) (N := 2) hx hb hts in_X4 hown hK (hR0.up hS) 1 rfl rfl 1 (by decide) (((va_Nw.warmF hG.1 (va_Nw.of rfl (Z.2.1 _ q243)))).use rfl) (fun _ h9 => h9) rfl dX1_grades_14 ?_
  refine lv_iload_n hx hb dX1_grades_17 rfl (lv_at hl 1 rfl) ?_
  refine a_aldq hx hb hK (hR1.up hS) 0 4 rfl rfl (by omega) (by decide) dX1_grades_18 ?_
  refine e_v (y := .ref (rm ja)) (rfl) ?_
  have hR3 := hRG ja (by omega)
  obtain ⟨gr, Yg⟩ : ∃ g, SG (dC, dI) dA g s0 := ⟨_, SS.gr Y⟩
  refine s_i (va_runV (As := []) (rest := []) ⟨hx, hb, hml, hown, hts⟩ (x6_grades Z gr Yg (rm ja) (rr ja) (Ms ja)) (cwV 0 hts (lw_V q1027 q772 q773 q102 q774) rfl rfl rfl (by decide +kernel) ⟨Nat.le_of_ble_eq_true rfl, Nat.le_of_ble_eq_true rfl⟩) (gP_V (va_recv hK (hR3.up hS) (ci := 0) (q0 := 0) rfl rfl) hG hS (fun q _ h => h.elim) ((hR3.up hS).sub (ws' := [((rm ja), .inr (0, [.ref (rr ja), .long (Ms ja 0)])), ((rr ja), .inl (dA 1, 32, .inr (.inl (fun j => Ms ja (j + 1)))))]) [0, 1] rfl)) rfl rfl hl.1 rfl (lv_room (Nat.le_of_ble_eq_true rfl)) dX1_grades_19 ⟨by first | decide | omega | (show _ ≤ (4 : Nat); omega), by first | decide | omega | (show _ ≤ (30 : Nat); omega)⟩) ?_
  subst hQe
  refine vx_ret ?_
  refine W.widen (k := 4) (n := 30) (by first | decide | omega) (by first | decide | omega) ?_
  exact W.iret (v := nI (grS (Ms ja))) hx hb hr (fun tz ht hW => ⟨⟨_, (), rfl, (grs_ok h7ja), B1_at ht (hP.sub [] rfl) (hD.sub [] (by decide) rfl) trivial⟩, hS.F ht⟩) hS.2.2 dX1_grades_22
set_option maxHeartbeats 4000000 in
theorem x1_areEqual {l : Launch} {dC : Nat → ClassId} {dI : Nat → Nat → Nat} {dA : Nat → ClassId} {s0 : State} {b0 : Addr} (Z : Z0 l dC dI dA s0 b0) (A : Nat → Prop) (sz : Nat) (hA : ∀ q : Nat, sz ≤ q → A q) {σ : Nat → Nat} (Y : SS (dC, dI) dA σ s0) (xa : Nat → Nat) (tl : Nat) (ec ep : Int32) (ga sg : Nat) (sr : Nat → Nat) (p0 q0 r0 : Nat) (rm rr : Nat → Nat) (Ms : Nat → MV) (a b : Int32) (sR : ∀ k, k < 8 → MSm (Ms k)) (pR : ∀ k, k < 8 → MSp (2 ^ (p0 + q0 + r0)) (Ms k)) : vx_Met l yX1_areEqual (ws_ yX1_areEqual cX1_areEqual 3 (some .boolean)) ({ frames := 9, cells := 4, slots := 30, locals := 540 } : Room) (gP [.ref (xa 0), .int a, .int b] s0 A (fun H => H.size = sz ∧ RO A (dC, dI) [((xa 0), .inr (3, xFs xa tl ec ep)), ((xa 3), .inr (4, [.ref ga, .ref (xa 7)]))] H ∧ RO A (dC, dI) [((xa 7), .inl (dA 4, 8, .inr (.inr (.inr (.inr (fun k => some (rm k)))))))] H ∧ AG A (dC, dI) dA ga sg sr p0 q0 r0 H ∧ RG A (dC, dI) dA rm rr Ms H)) (va_Qi (S := Unit) (fun r9 _ => eqX Ms a b = (nI 0, r9)) (B1 (dC, dI) A (fun _ => []) (fun _ _ => True)) A) (vx_X (S := Unit) (fun _ => True) (fun _ E _ _ => (E = "java/lang/IndexOutOfBoundsException" ∧ eqX Ms a b = (nI 1, nI 0))) A) 4 30 A := by
  refine vx_ofW (cc := cX1_areEqual) (maxL := 3) (ret := (some .boolean)) (by decide) rfl ?_
  intro p e s m args below meth c s₁ B hml hnoH hv
  obtain ⟨hav, hG, hsz, hR0, hR1, hAG, hRG⟩ := hv
  have hx := B.exec
  have hb := B.bytes
  have hr := B.returns
  have hts := atoms_spec (ws := (ws_ yX1_areEqual cX1_areEqual 3 (some .boolean))) B.pre
  have hts : ∀ w ∈ lw_all, w.before _ s = true := fun w h => hts w (List.mem_cons_of_mem _ h)
  have hown : s.vm.findClass RX1 = some m.cls := findClass_of_methodNamed B.named
  have hlocks := B.notSynchronized
  have hK := hG.K Z
  subst hsz
  have hS : va_S A s.heap s.heap [] := va_S.rf
  have hP : va_P (dC, dI) vwCl [] s.heap := fun k q h => by simp at h
  have hD : va_D A [] := ⟨fun i j p q h => by simp at h, fun k q h => by simp at h⟩
  have hl := lv_entry ([.ref (xa 0), .int a, .int b]) (n := 3) (Nat.le_of_ble_eq_true rfl)
  rw [show entryFrame m args 3 = entryFrame m ([.ref (xa 0), .int a, .int b] : List Value).toArray 3 from by rw [hav], lg_entry_eq]
  generalize (lg_sl ([.ref (xa 0), .int a, .int b]) ++ List.replicate (3 - (lg_sl ([.ref (xa 0), .int a, .int b])).length) Slot.unset).toArray = ls at hl ⊢
  have hl : lv_has ls 3 [(0, .ref (xa 0)), (1, .int a), (2, .int b)] := hl
  generalize hQe : vx_MQ below _ _ _ s _ _ _ = Q
  change W p l e ({ frames := 9, cells := 4, slots := 30, locals := 540 } : Room) s m args below meth c s.heap [] 0 0 Q (F0 m 0 ls [])
  have hn := hAG.1
  have h5 := pow5 hn
  have hR2 := hAG.2.1
  refine lv_iconst (v := nI 2) hx hb dX1_areEqual_0 (by decide) ?_
  refine a_newa (D := (dC, dI)) (atype := .int) (N' := 2) (a0 := (2, .inl (fun _ => 0))) hx hb (hts _ q230) rfl hK hP hD hS hA 0 rfl (fun _ => ra_int) (fun _ => rfl) (by decide) (by decide) (by decide) (by first | decide | omega) (by first | decide | omega) dX1_areEqual_1 (fun na_1 H locs hP hD hS => ?_)
  have hP : va_P (dC, dI) vwCl [(na_1, .inl (dA 0, 2, .inl (fun _ => 0)))] H := hP
  have hD : va_D A [(na_1, .inl (dA 0, 2, .inl (fun _ => 0)))] := hD
  refine lv_dup hx hb dX1_areEqual_3 rfl ?_
  refine lv_iconst (v := nI 0) hx hb dX1_areEqual_4 (by decide) ?_
  refine lv_iload_n hx hb dX1_areEqual_5 rfl (lv_at hl 1 rfl) ?_
  refine a_iast hx hb hK hP hD hS 0 0 rfl rfl (by omega) (by omega) dX1_areEqual_6 (fun H locs hP hD hS => ?_)
  have hP : va_P (dC, dI) vwCl [(na_1, .inl (dA 0, 2, .inl (upd (fun _ => 0) 0 a)))] H := hP
  have hD : va_D A [(na_1, .inl (dA 0, 2, .inl (upd (fun _ => 0) 0 a)))] := hD
  refine lv_dup hx hb dX1_areEqual_7 rfl ?_
  refine lv_iconst (v := nI 1) hx hb dX1_areEqual_8 (by decide) ?_
  refine lv_iload_n hx hb dX1_areEqual_9 rfl (lv_at hl 2 rfl) ?_
  refine a_iast hx hb hK hP hD hS 0 0 rfl rfl (by omega) (by omega) dX1_areEqual_10 (fun H locs hP hD hS => ?_)
  have hP : va_P (dC, dI) vwCl [(na_1, .inl (dA 0, 2, .inl (upd (upd (fun _ => 0) 0 a) 1 b)))] H := hP
  have hD : va_D A [(na_1, .inl (dA 0, 2, .inl (upd (upd (fun _ => 0) 0 a) 1 b)))] := hD
  have hF9 := va_free (wc := []) hD hS (fun q h => hA q h) [] rfl
  refine x_v (wc := []) (wr := [(na_1, .inl (dA 0, 2, .inl (upd (upd (fun _ => 0) 0 a) 1 b)))]) (vx_runS (As := [.ref na_1]) (rest := []) ⟨hx, hb, hml, hown, hts⟩ (x1_registers Z (va_A [] H.size) H.size (fun q h => Or.inr h) Y na_1 2 (upd (upd (fun _ => 0) 0 a) 1 b) (by decide)) (va_cwS 1 hts (lw_S q469 q470 q96 q471) rfl rfl rfl (by decide +kernel) ⟨Nat.le_of_ble_eq_true rfl, Nat.le_of_ble_eq_true rfl⟩) (gP_S hG hS (fun q _ h => hF9 q h) ⟨rfl, (RO.beside (wr := [(na_1, .inl (dA 0, 2, .inl (upd (upd (fun _ => 0) 0 a) 1 b)))]) hP hD [] [0] rfl rfl (by decide))⟩) rfl rfl hl.1 rfl (lv_room (Nat.le_of_ble_eq_true rfl)) dX1_areEqual_11 ⟨by first | decide | omega | (show _ ≤ (4 : Nat); omega), by first | decide | omega | (show _ ≤ (30 : Nat); omega)⟩) hP hD hS hA [] [0] rfl rfl (by decide) (by decide) (fun E ce q9 u9 t9 H locs ht9 hp9 hb9 hz hP hS h1 h2 h3 => ?_) (fun u9 H locs hq hX hz hk hP hD hS => ?_)
  · have hD := hD.sub (ws' := [(na_1, .inl (dA 0, 2, .inl (upd (upd (fun _ => 0) 0 a) 1 b)))]) [0] (by decide) rfl
    have hP : va_P (dC, dI) vwCl [(na_1, .inl (dA 0, 2, .inl (upd (upd (fun _ => 0) 0 a) 1 b)))] H := hP
    have hD : va_D A [(na_1, .inl (dA 0, 2, .inl (upd (upd (fun _ => 0) 0 a) 1 b)))] := hD
    subst hb9
    subst hQe
    exact vx_out (fun x h => (hnoH x h).elim) hlocks h1 h2 h3 (fun t10 e10 _ => ⟨(), trivial, (⟨rfl, eq_1 (rgs2.symm.trans hp9)⟩), hS.F e10⟩) hS.2.2 (by first | decide | omega) (by first | decide | omega)
  have hrg : (rgB a && rgB b) = true := rgs2.symm.trans hq
  clear hq
  have hP : va_P (dC, dI) vwCl [(na_1, .inl (dA 0, 2, .inl (upd (upd (fun _ => 0) 0 a) 1 b)))] H := hP
  have hD : va_D A [(na_1, .inl (dA 0, 2, .inl (upd (upd (fun _ => 0) 0 a) 1 b)))] := hD
  have hP0 := hP.sub (ws' := []) [] rfl
  have hD0 := hD.sub (ws' := []) [] (by decide) rfl
  have h8ja := inB_nat (by decide) (show inB a (nI 0) (nI 7) = true from (Bool.and_eq_true_iff.mp hrg).1)
  have h8jb := inB_nat (by decide) (show inB b (nI 0) (nI 7) = true from (Bool.and_eq_true_iff.mp hrg).2)
  obtain ⟨ja, h9ja, e8ja⟩ := h8ja
  obtain ⟨jb, h9jb, e8jb⟩ := h8jb
  have h7ja : ja < 8 := by omega
  subst e8ja
  have h7jb : jb < 8 := by omega
  subst e8jb
  have hP := hP0
  have hD := hD0
  refine lv_aload_n hx hb dX1_areEqual_14 rfl (lv_at hl 0 rfl) ?_
  refine va_get (D := (dC, dI)) (ci := 3) (v := .ref (xa 3)) (C := RX1) (T := TX1) (N := 9) hx hb hts in_X1 hown hK (hR0.up hS) 0 rfl rfl 2 (by decide) (hts _ q286) (fun _ h9 => h9) rfl dX1_areEqual_15 ?_
  refine va_getN (D := (dC, dI)) (ci := 4) (v := .ref (xa 7)) (C := RX4) (T := TX4) (N := 2) hx hb hts in_X4 hown hK (hR0.up hS) 1 rfl rfl 1 (by decide) (((va_Nw.warmF hG.1 (va_Nw.of rfl (Z.2.1 _ q243)))).use rfl) (fun _ h9 => h9) rfl dX1_areEqual_18 ?_
  refine lv_iload_n hx hb dX1_areEqual_21 rfl (lv_at hl 1 rfl) ?_
  refine a_aldq hx hb hK (hR1.up hS) 0 4 rfl rfl (by omega) (by decide) dX1_areEqual_22 ?_
  refine e_v (y := .ref (rm ja)) (rfl) ?_
  have hR3 := hRG ja (by omega)
  refine lv_aload_n hx hb dX1_areEqual_23 rfl (lv_at hl 0 rfl) ?_
  refine va_get (D := (dC, dI)) (ci := 3) (v := .ref (xa 3)) (C := RX1) (T := TX1) (N := 9) hx hb hts in_X1 hown hK (hR0.up hS) 0 rfl rfl 2 (by decide) (hts _ q286) (fun _ h9 => h9) rfl dX1_areEqual_24 ?_
  refine va_getN (D := (dC, dI)) (ci := 4) (v := .ref (xa 7)) (C := RX4) (T := TX4) (N := 2) hx hb hts in_X4 hown hK (hR0.up hS) 1 rfl rfl 1 (by decide) (((va_Nw.warmF hG.1 (va_Nw.of rfl (Z.2.1 _ q243)))).use rfl) (fun _ h9 => h9) rfl dX1_areEqual_27 ?_
  refine lv_iload_n hx hb dX1_areEqual_30 rfl (lv_at hl 2 rfl) ?_
  refine a_aldq hx hb hK (hR1.up hS) 0 4 rfl rfl (by omega) (by decide) dX1_areEqual_31 ?_
  refine e_v (y := .ref (rm jb)) (rfl) ?_
  have hR4 := hRG jb (by omega)
  refine s_i (va_runV (As := [.ref (rm jb)]) (rest := []) ⟨hx, hb, hml, hown, hts⟩ (x6_isLike Z (rm ja) (rr ja) (rm jb) (rr jb) (Ms ja) (Ms jb)) (cwV 1 hts (lw_V q1061 q1062 q1063 q102 q1064) rfl rfl rfl (by decide +kernel) ⟨Nat.le_of_ble_eq_true rfl, Nat.le_of_ble_eq_true rfl⟩) (gP_V (va_recv hK (hR3.up hS) (ci := 0) (q0 := 0) rfl rfl) hG hS (fun q _ h => h.elim) (va_P.app ((hR3.up hS).sub (ws' := [((rm ja), .inr (0, [.ref (rr ja), .long (Ms ja 0)])), ((rr ja), .inl (dA 1, 32, .inr (.inl (fun j => Ms ja (j + 1)))))]) [0, 1] rfl) ((hR4.up hS).sub (ws' := [((rm jb), .inr (0, [.ref (rr jb), .long (Ms jb 0)])), ((rr jb), .inl (dA 1, 32, .inr (.inl (fun j => Ms jb (j + 1)))))]) [0, 1] rfl))) rfl rfl hl.1 rfl (lv_room (Nat.le_of_ble_eq_true rfl)) dX1_areEqual_32 ⟨by first | decide | omega | (show _ ≤ (4 : Nat); omega), by first | decide | omega | (show _ ≤ (30 : Nat); omega)⟩) ?_
  subst hQe
  refine vx_ret ?_
  refine W.widen (k := 4) (n := 30) (by first | decide | omega) (by first | decide | omega) ?_
  exact W.zret (v := bI (likeB (Ms ja) (Ms jb) 33)) hx hb hr (bI_z _) (fun tz ht hW => ⟨⟨_, (), rfl, (eq_ok h7ja h7jb), B1_at ht (hP.sub [] rfl) (hD.sub [] (by decide) rfl) trivial⟩, hS.F ht⟩) hS.2.2 dX1_areEqual_35
set_option maxHeartbeats 4000000 in
theorem x1_isBlade {l : Launch} {dC : Nat → ClassId} {dI : Nat → Nat → Nat} {dA : Nat → ClassId} {s0 : State} {b0 : Addr} (Z : Z0 l dC dI dA s0 b0) (A : Nat → Prop) (sz : Nat) (hA : ∀ q : Nat, sz ≤ q → A q) {σ : Nat → Nat} (Y : SS (dC, dI) dA σ s0) (xa : Nat → Nat) (tl : Nat) (ec ep : Int32) (ga sg : Nat) (sr : Nat → Nat) (p0 q0 r0 : Nat) (rm rr : Nat → Nat) (Ms : Nat → MV) (a : Int32) (sR : ∀ k, k < 8 → MSm (Ms k)) (pR : ∀ k, k < 8 → MSp (2 ^ (p0 + q0 + r0)) (Ms k)) : vx_Met l yX1_isBlade (ws_ yX1_isBlade cX1_isBlade 2 (some .boolean)) ({ frames := 9, cells := 36, slots := 200, locals := 540 } : Room) (gP [.ref (xa 0), .int a] s0 A (fun H => H.size = sz ∧ RO A (dC, dI) [((xa 0), .inr (3, xFs xa tl ec ep)), ((xa 3), .inr (4, [.ref ga, .ref (xa 7)]))] H ∧ RO A (dC, dI) [((xa 7), .inl (dA 4, 8, .inr (.inr (.inr (.inr (fun k => some (rm k)))))))] H ∧ AG A (dC, dI) dA ga sg sr p0 q0 r0 H ∧ RG A (dC, dI) dA rm rr Ms H)) (va_Qi (S := Unit) (fun r9 _ => blaX p0 q0 r0 Ms a = (nI 0, r9)) (B1 (dC, dI) A (fun _ => []) (fun _ _ => True)) A) (vx_X (S := Unit) (fun _ => True) (fun _ E _ _ => (E = "java/lang/IndexOutOfBoundsException" ∧ blaX p0 q0 r0 Ms a = (nI 1, nI 0))) A) 36 200 A := by
  refine vx_ofW (cc := cX1_isBlade) (maxL := 2) (ret := (some .boolean)) (by decide) rfl ?_
  intro p e s m args below meth c s₁ B hml hnoH hv
  obtain ⟨hav, hG, hsz, hR0, hR1, hAG, hRG⟩ := hv
  have hx := B.exec
  have hb := B.bytes
  have hr := B.returns
  have hts := atoms_spec (ws := (ws_ yX1_isBlade cX1_isBlade 2 (some .boolean))) B.pre
  have hts : ∀ w ∈ lw_all, w.before _ s = true := fun w h => hts w (List.mem_cons_of_mem _ h)
  have hown : s.vm.findClass RX1 = some m.cls := findClass_of_methodNamed B.named
  have hlocks := B.notSynchronized
  have hK := hG.K Z
  subst hsz
  have hS : va_S A s.heap s.heap [] := va_S.rf
  have hP : va_P (dC, dI) vwCl [] s.heap := fun k q h => by simp at h
  have hD : va_D A [] := ⟨fun i j p q h => by simp at h, fun k q h => by simp at h⟩
  have hl := lv_entry ([.ref (xa 0), .int a]) (n := 2) (Nat.le_of_ble_eq_true rfl)
  rw [show entryFrame m args 2 = entryFrame m ([.ref (xa 0), .int a] : List Value).toArray 2 from by rw [hav], lg_entry_eq]
  generalize (lg_sl ([.ref (xa 0), .int a]) ++ List.replicate (2 - (lg_sl ([.ref (xa 0), .int a])).length) Slot.unset).toArray = ls at hl ⊢
  have hl : lv_has ls 2 [(0, .ref (xa 0)), (1, .int a)] := hl
  generalize hQe : vx_MQ below _ _ _ s _ _ _ = Q
  change W p l e ({ frames := 9, cells := 36, slots := 200, locals := 540 } : Room) s m args below meth c s.heap [] 0 0 Q (F0 m 0 ls [])
  have hn := hAG.1
  have h5 := pow5 hn
  have hR2 := hAG.2.1
  refine lv_iconst (v := nI 1) hx hb dX1_isBlade_0 (by decide) ?_
  refine a_newa (D := (dC, dI)) (atype := .int) (N' := 1) (a0 := (1, .inl (fun _ => 0))) hx hb (hts _ q230) rfl hK hP hD hS hA 0 rfl (fun _ => ra_int) (fun _ => rfl) (by decide) (by decide) (by decide) (by first | decide | omega) (by first | decide | omega) dX1_isBlade_1 (fun na_1 H locs hP hD hS => ?_)
  have hP : va_P (dC, dI) vwCl [(na_1, .inl (dA 0, 1, .inl (fun _ => 0)))] H := hP
  have hD : va_D A [(na_1, .inl (dA 0, 1, .inl (fun _ => 0)))] := hD
  refine lv_dup hx hb dX1_isBlade_3 rfl ?_
  refine lv_iconst (v := nI 0) hx hb dX1_isBlade_4 (by decide) ?_
  refine lv_iload_n hx hb dX1_isBlade_5 rfl (lv_at hl 1 rfl) ?_
  refine a_iast hx hb hK hP hD hS 0 0 rfl rfl (by omega) (by omega) dX1_isBlade_6 (fun H locs hP hD hS => ?_)
  have hP : va_P (dC, dI) vwCl [(na_1, .inl (dA 0, 1, .inl (upd (fun _ => 0) 0 a)))] H := hP
  have hD : va_D A [(na_1, .inl (dA 0, 1, .inl (upd (fun _ => 0) 0 a)))] := hD
  have hF9 := va_free (wc := []) hD hS (fun q h => hA q h) [] rfl
  refine x_v (wc := []) (wr := [(na_1, .inl (dA 0, 1, .inl (upd (fun _ => 0) 0 a)))]) (vx_runS (As := [.ref na_1]) (rest := []) ⟨hx, hb, hml, hown, hts⟩ (x1_registers Z (va_A [] H.size) H.size (fun q h => Or.inr h) Y na_1 1 (upd (fun _ => 0) 0 a) (by decide)) (va_cwS 1 hts (lw_S q469 q470 q96 q471) rfl rfl rfl (by decide +kernel) ⟨Nat.le_of_ble_eq_true rfl, Nat.le_of_ble_eq_true rfl⟩) (gP_S hG hS (fun q _ h => hF9 q h) ⟨rfl, (RO.beside (wr := [(na_1, .inl (dA 0, 1, .inl (upd (fun _ => 0) 0 a)))]) hP hD [] [0] rfl rfl (by decide))⟩) rfl rfl hl.1 rfl (lv_room (Nat.le_of_ble_eq_true rfl)) dX1_isBlade_7 ⟨by first | decide | omega | (show _ ≤ (36 : Nat); omega), by first | decide | omega | (show _ ≤ (200 : Nat); omega)⟩) hP hD hS hA [] [0] rfl rfl (by decide) (by decide) (fun E ce q9 u9 t9 H locs ht9 hp9 hb9 hz hP hS h1 h2 h3 => ?_) (fun u9 H locs hq hX hz hk hP hD hS => ?_)
  · have hD := hD.sub (ws' := [(na_1, .inl (dA 0, 1, .inl (upd (fun _ => 0) 0 a)))]) [0] (by decide) rfl
    have hP : va_P (dC, dI) vwCl [(na_1, .inl (dA 0, 1, .inl (upd (fun _ => 0) 0 a)))] H := hP
    have hD : va_D A [(na_1, .inl (dA 0, 1, .inl (upd (fun _ => 0) 0 a)))] := hD
    subst hb9
    subst hQe
    exact vx_out (fun x h => (hnoH x h).elim) hlocks h1 h2 h3 (fun t10 e10 _ => ⟨(), trivial, (⟨rfl, bla_1 (rgs1.symm.trans hp9)⟩), hS.F e10⟩) hS.2.2 (by first | decide | omega) (by first | decide | omega)
  have hrg : (rgB a) = true := rgs1.symm.trans hq
  clear hq
  have hP : va_P (dC, dI) vwCl [(na_1, .inl (dA 0, 1, .inl (upd (fun _ => 0) 0 a)))] H := hP
  have hD : va_D A [(na_1, .inl (dA 0, 1, .inl (upd (fun _ => 0) 0 a)))] := hD
  have hP0 := hP.sub (ws' := []) [] rfl
  have hD0 := hD.sub (ws' := []) [] (by decide) rfl
  have h8ja := inB_nat (by decide) (show inB a (nI 0) (nI 7) = true from hrg)
  obtain ⟨ja, h9ja, e8ja⟩ := h8ja
  have h7ja : ja < 8 := by omega
  subst e8ja
  have hP := hP0
  have hD := hD0
  refine lv_aload_n hx hb dX1_isBlade_10 rfl (lv_at hl 0 rfl) ?_
  refine va_get (D := (dC, dI)) (ci := 3) (v := .ref (xa 3)) (C := RX1) (T := TX1) (N := 9) hx hb hts in_X1 hown hK (hR0.up hS) 0 rfl rfl 2 (by decide) (hts _ q286) (fun _ h9 => h9) rfl dX1_isBlade_11 ?_
  refine va_getN (D := (dC, dI)) (ci := 4) (v := .ref ga) (C := RX4) (T := TX4) (N := 2) hx hb hts in_X4 hown hK (hR0.up hS) 1 rfl rfl 0 (by decide) (((va_Nw.warmF hG.1 (va_Nw.of rfl (Z.2.1 _ q240)))).use rfl) (fun _ h9 => h9) rfl dX1_isBlade_14 ?_
  refine lv_aload_n hx hb dX1_isBlade_17 rfl (lv_at hl 0 rfl) ?_
  refine va_get (D := (dC, dI)) (ci := 3) (v := .ref (xa 3)) (C := RX1) (T := TX1) (N := 9) hx hb hts in_X1 hown hK (hR0.up hS) 0 rfl rfl 2 (by decide) (hts _ q286) (fun _ h9 => h9) rfl dX1_isBlade_18 ?_
  refine va_getN (D := (dC, dI)) (ci := 4) (v := .ref (xa 7)) (C := RX4) (T := TX4) (N := 2) hx hb hts in_X4 hown hK (hR0.up hS) 1 rfl rfl 1 (by decide) (((va_Nw.warmF hG.1 (va_Nw.of rfl (Z.2.1 _ q243)))).use rfl) (fun _ h9 => h9) rfl dX1_isBlade_21 ?_
  refine lv_iload_n hx hb dX1_isBlade_24 rfl (lv_at hl 1 rfl) ?_
  refine a_aldq hx hb hK (hR1.up hS) 0 4 rfl rfl (by omega) (by decide) dX1_isBlade_25 ?_
  refine e_v (y := .ref (rm ja)) (rfl) ?_
  have hR3 := hRG ja (by omega)
  have hF9 := va_free (wc := []) hD hS (fun q h => hA q h) [] rfl
  refine c_i (wr := []) (va_runV (As := [.ref (rm ja)]) (rest := []) ⟨hx, hb, hml, hown, hts⟩ (x5_isBlade Z (va_A [] H.size) H.size (fun q h => Or.inr h) Y ga sg sr p0 q0 r0 (rm ja) (rr ja) (Ms ja) (sR ja (by omega))) (cwV 1 hts (lw_V q878 q879 q880 q101 q881) rfl rfl rfl (by decide +kernel) ⟨Nat.le_of_ble_eq_true rfl, Nat.le_of_ble_eq_true rfl⟩) (gP_V (va_recv hK (hR2.up hS) (ci := 1) (q0 := 0) rfl rfl) hG hS (fun q _ h => hF9 q h) ⟨rfl, (hR3.to hS (fun q _ h => hF9 q h)), (hAG.to hS (fun q _ h => hF9 q h))⟩) rfl rfl hl.1 rfl (lv_room (Nat.le_of_ble_eq_true rfl)) dX1_isBlade_26 ⟨by first | decide | omega | (show _ ≤ (36 : Nat); omega), by first | decide | omega | (show _ ≤ (200 : Nat); omega)⟩) hP hD hS hA [] [] rfl rfl (by decide) (by decide) (fun r9 u9 H locs hq hX hz hk hP hD hS => ?_)
  obtain ⟨r_2, rfl⟩ : ∃ z, z = r9 := ⟨_, rfl⟩
  subst hq
  have hP : va_P (dC, dI) vwCl [] H := hP
  have hD : va_D A [] := hD
  subst hQe
  refine vx_ret ?_
  refine W.widen (k := 36) (n := 200) (by first | decide | omega) (by first | decide | omega) ?_
  exact W.zret (v := bI (oneB (p0 + q0 + r0) (Ms ja))) hx hb hr (bI_z _) (fun tz ht hW => ⟨⟨_, (), rfl, (bla_ok h7ja), B1_at ht (hP.sub [] rfl) (hD.sub [] (by decide) rfl) trivial⟩, hS.F ht⟩) hS.2.2 dX1_isBlade_29
set_option maxHeartbeats 4000000 in
theorem x1_vectorsIn {l : Launch} {dC : Nat → ClassId} {dI : Nat → Nat → Nat} {dA : Nat → ClassId} {s0 : State} {b0 : Addr} (Z : Z0 l dC dI dA s0 b0) (A : Nat → Prop) (sz : Nat) (hA : ∀ q : Nat, sz ≤ q → A q) {σ : Nat → Nat} (Y : SS (dC, dI) dA σ s0) (xa : Nat → Nat) (tl : Nat) (ec ep : Int32) (ga sg : Nat) (sr : Nat → Nat) (p0 q0 r0 : Nat) (rm rr : Nat → Nat) (Ms : Nat → MV) (a : Int32) (sR : ∀ k, k < 8 → MSm (Ms k)) (pR : ∀ k, k < 8 → MSp (2 ^ (p0 + q0 + r0)) (Ms k)) : vx_Met l yX1_vectorsIn (ws_ yX1_vectorsIn cX1_vectorsIn 2 (some .int)) ({ frames := 9, cells := 4, slots := 30, locals := 540 } : Room) (gP [.ref (xa 0), .int a] s0 A (fun H => H.size = sz ∧ RO A (dC, dI) [((xa 0), .inr (3, xFs xa tl ec ep)), ((xa 3), .inr (4, [.ref ga, .ref (xa 7)]))] H ∧ RO A (dC, dI) [((xa 7), .inl (dA 4, 8, .inr (.inr (.inr (.inr (fun k => some (rm k)))))))] H ∧ AG A (dC, dI) dA ga sg sr p0 q0 r0 H ∧ RG A (dC, dI) dA rm rr Ms H)) (va_Qi (S := Unit) (fun r9 _ => vinX p0 q0 r0 Ms a = (nI 0, r9)) (B1 (dC, dI) A (fun _ => []) (fun _ _ => True)) A) (vx_X (S := Unit) (fun _ => True) (fun _ E _ _ => (E = "java/lang/IndexOutOfBoundsException" ∧ vinX p0 q0 r0 Ms a = (nI 1, nI 0))) A) 4 30 A := by
  refine vx_ofW (cc := cX1_vectorsIn) (maxL := 2) (ret := (some .int)) (by decide) rfl ?_
  intro p e s m args below meth c s₁ B hml hnoH hv
  obtain ⟨hav, hG, hsz, hR0, hR1, hAG, hRG⟩ := hv
  have hx := B.exec
  have hb := B.bytes
  have hr := B.returns
  have hts := atoms_spec (ws := (ws_ yX1_vectorsIn cX1_vectorsIn 2 (some .int))) B.pre
  have hts : ∀ w ∈ lw_all, w.before _ s = true := fun w h => hts w (List.mem_cons_of_mem _ h)
  have hown : s.vm.findClass RX1 = some m.cls := findClass_of_methodNamed B.named
  have hlocks := B.notSynchronized
  have hK := hG.K Z
  subst hsz
  have hS : va_S A s.heap s.heap [] := va_S.rf
  have hP : va_P (dC, dI) vwCl [] s.heap := fun k q h => by simp at h
  have hD : va_D A [] := ⟨fun i j p q h => by simp at h, fun k q h => by simp at h⟩
  have hl := lv_entry ([.ref (xa 0), .int a]) (n := 2) (Nat.le_of_ble_eq_true rfl)
  rw [show entryFrame m args 2 = entryFrame m ([.ref (xa 0), .int a] : List Value).toArray 2 from by rw [hav], lg_entry_eq]
  generalize (lg_sl ([.ref (xa 0), .int a]) ++ List.replicate (2 - (lg_sl ([.ref (xa 0), .int a])).length) Slot.unset).toArray = ls at hl ⊢
  have hl : lv_has ls 2 [(0, .ref (xa 0)), (1, .int a)] := hl
  generalize hQe : vx_MQ below _ _ _ s _ _ _ = Q
  change W p l e ({ frames := 9, cells := 4, slots := 30, locals := 540 } : Room) s m args below meth c s.heap [] 0 0 Q (F0 m 0 ls [])
  have hn := hAG.1
  have h5 := pow5 hn
  have hR2 := hAG.2.1
  refine lv_iconst (v := nI 1) hx hb dX1_vectorsIn_0 (by decide) ?_
  refine a_newa (D := (dC, dI)) (atype := .int) (N' := 1) (a0 := (1, .inl (fun _ => 0))) hx hb (hts _ q230) rfl hK hP hD hS hA 0 rfl (fun _ => ra_int) (fun _ => rfl) (by decide) (by decide) (by decide) (by first | decide | omega) (by first | decide | omega) dX1_vectorsIn_1 (fun na_1 H locs hP hD hS => ?_)
  have hP : va_P (dC, dI) vwCl [(na_1, .inl (dA 0, 1, .inl (fun _ => 0)))] H := hP
  have hD : va_D A [(na_1, .inl (dA 0, 1, .inl (fun _ => 0)))] := hD
  refine lv_dup hx hb dX1_vectorsIn_3 rfl ?_
  refine lv_iconst (v := nI 0) hx hb dX1_vectorsIn_4 (by decide) ?_
  refine lv_iload_n hx hb dX1_vectorsIn_5 rfl (lv_at hl 1 rfl) ?_
  refine a_iast hx hb hK hP hD hS 0 0 rfl rfl (by omega) (by omega) dX1_vectorsIn_6 (fun H locs hP hD hS => ?_)
  have hP : va_P (dC, dI) vwCl [(na_1, .inl (dA 0, 1, .inl (upd (fun _ => 0) 0 a)))] H := hP
  have hD : va_D A [(na_1, .inl (dA 0, 1, .inl (upd (fun _ => 0) 0 a)))] := hD
  have hF9 := va_free (wc := []) hD hS (fun q h => hA q h) [] rfl
  refine x_v (wc := []) (wr := [(na_1, .inl (dA 0, 1, .inl (upd (fun _ => 0) 0 a)))]) (vx_runS (As := [.ref na_1]) (rest := []) ⟨hx, hb, hml, hown, hts⟩ (x1_registers Z (va_A [] H.size) H.size (fun q h => Or.inr h) Y na_1 1 (upd (fun _ => 0) 0 a) (by decide)) (va_cwS 1 hts (lw_S q469 q470 q96 q471) rfl rfl rfl (by decide +kernel) ⟨Nat.le_of_ble_eq_true rfl, Nat.le_of_ble_eq_true rfl⟩) (gP_S hG hS (fun q _ h => hF9 q h) ⟨rfl, (RO.beside (wr := [(na_1, .inl (dA 0, 1, .inl (upd (fun _ => 0) 0 a)))]) hP hD [] [0] rfl rfl (by decide))⟩) rfl rfl hl.1 rfl (lv_room (Nat.le_of_ble_eq_true rfl)) dX1_vectorsIn_7 ⟨by first | decide | omega | (show _ ≤ (4 : Nat); omega), by first | decide | omega | (show _ ≤ (30 : Nat); omega)⟩) hP hD hS hA [] [0] rfl rfl (by decide) (by decide) (fun E ce q9 u9 t9 H locs ht9 hp9 hb9 hz hP hS h1 h2 h3 => ?_) (fun u9 H locs hq hX hz hk hP hD hS => ?_)
  · have hD := hD.sub (ws' := [(na_1, .inl (dA 0, 1, .inl (upd (fun _ => 0) 0 a)))]) [0] (by decide) rfl
    have hP : va_P (dC, dI) vwCl [(na_1, .inl (dA 0, 1, .inl (upd (fun _ => 0) 0 a)))] H := hP
    have hD : va_D A [(na_1, .inl (dA 0, 1, .inl (upd (fun _ => 0) 0 a)))] := hD
    subst hb9
    subst hQe
    exact vx_out (fun x h => (hnoH x h).elim) hlocks h1 h2 h3 (fun t10 e10 _ => ⟨(), trivial, (⟨rfl, vin_1 (rgs1.symm.trans hp9)⟩), hS.F e10⟩) hS.2.2 (by first | decide | omega) (by first | decide | omega)
  have hrg : (rgB a) = true := rgs1.symm.trans hq
  clear hq
  have hP : va_P (dC, dI) vwCl [(na_1, .inl (dA 0, 1, .inl (upd (fun _ => 0) 0 a)))] H := hP
  have hD : va_D A [(na_1, .inl (dA 0, 1, .inl (upd (fun _ => 0) 0 a)))] := hD
  have hP0 := hP.sub (ws' := []) [] rfl
  have hD0 := hD.sub (ws' := []) [] (by decide) rfl
  have h8ja := inB_nat (by decide) (show inB a (nI 0) (nI 7) = true from hrg)
  obtain ⟨ja, h9ja, e8ja⟩ := h8ja
  have h7ja : ja < 8 := by omega
  subst e8ja
  have hP := hP0
  have hD := hD0
  refine lv_aload_n hx hb dX1_vectorsIn_10 rfl (lv_at hl 0 rfl) ?_
  refine va_get (D := (dC, dI)) (ci := 3) (v := .ref (xa 3)) (C := RX1) (T := TX1) (N := 9) hx hb hts in_X1 hown hK (hR0.up hS) 0 rfl rfl 2 (by decide) (hts _ q286) (fun _ h9 => h9) rfl dX1_vectorsIn_11 ?_
  refine va_getN (D := (dC, dI)) (ci := 4) (v := .ref ga) (C := RX4) (T := TX4) (N := 2) hx hb hts in_X4 hown hK (hR0.up hS) 1 rfl rfl 0 (by decide) (((va_Nw.warmF hG.1 (va_Nw.of rfl (Z.2.1 _ q240)))).use rfl) (fun _ h9 => h9) rfl dX1_vectorsIn_14 ?_
  refine lv_aload_n hx hb dX1_vectorsIn_17 rfl (lv_at hl 0 rfl) ?_
  refine va_get (D := (dC, dI)) (ci := 3) (v := .ref (xa 3)) (C := RX1) (T := TX1) (N := 9) hx hb hts in_X1 hown hK (hR0.up hS) 0 rfl rfl 2 (by decide) (hts _ q286) (fun _ h9 => h9) rfl dX1_vectorsIn_18 ?_
  refine va_getN (D := (dC, dI)) (ci := 4) (v := .ref (xa 7)) (C := RX4) (T := TX4) (N := 2) hx hb hts in_X4 hown hK (hR0.up hS) 1 rfl rfl 1 (by decide) (((va_Nw.warmF hG.1 (va_Nw.of rfl (Z.2.1 _ q243)))).use rfl) (fun _ h9 => h9) rfl dX1_vectorsIn_21 ?_
  refine lv_iload_n hx hb dX1_vectorsIn_24 rfl (lv_at hl 1 rfl) ?_
  refine a_aldq hx hb hK (hR1.up hS) 0 4 rfl rfl (by omega) (by decide) dX1_vectorsIn_25 ?_
  refine e_v (y := .ref (rm ja)) (rfl) ?_
  have hR3 := hRG ja (by omega)
  refine s_i (va_runV (As := [.ref (rm ja)]) (rest := []) ⟨hx, hb, hml, hown, hts⟩ (x5_vectorsIn Z Y ga sg sr p0 q0 r0 (rm ja) (rr ja) (Ms ja) hn) (cwV 1 hts (lw_V q1118 q1119 q1120 q101 q1121) rfl rfl rfl (by decide +kernel) ⟨Nat.le_of_ble_eq_true rfl, Nat.le_of_ble_eq_true rfl⟩) (gP_V (va_recv hK (hR2.up hS) (ci := 1) (q0 := 0) rfl rfl) hG hS (fun q _ h => h.elim) (va_P.app ((hR2.up hS).sub (ws' := [(ga, .inr (1, [.int (nI p0), .int (nI q0), .int (nI r0), .int (nI (p0 + q0 + r0)), .int (nI (2 ^ (p0 + q0 + r0) - 1)), .ref sg]))]) [0] rfl) ((hR3.up hS).sub (ws' := [((rm ja), .inr (0, [.ref (rr ja), .long (Ms ja 0)])), ((rr ja), .inl (dA 1, 32, .inr (.inl (fun j => Ms ja (j + 1)))))]) [0, 1] rfl))) rfl rfl hl.1 rfl (lv_room (Nat.le_of_ble_eq_true rfl)) dX1_vectorsIn_26 ⟨by first | decide | omega | (show _ ≤ (4 : Nat); omega), by first | decide | omega | (show _ ≤ (30 : Nat); omega)⟩) ?_
  subst hQe
  refine vx_ret ?_
  refine W.widen (k := 4) (n := 30) (by first | decide | omega) (by first | decide | omega) ?_
  exact W.iret (v := nI (vinN (Ms ja) (2 ^ (p0 + q0 + r0) - 1) (2 ^ (p0 + q0 + r0)))) hx hb hr (fun tz ht hW => ⟨⟨_, (), rfl, (vin_ok h7ja), B1_at ht (hP.sub [] rfl) (hD.sub [] (by decide) rfl) trivial⟩, hS.F ht⟩) hS.2.2 dX1_vectorsIn_29
set_option maxHeartbeats 4000000 in
theorem x1_commute {l : Launch} {dC : Nat → ClassId} {dI : Nat → Nat → Nat} {dA : Nat → ClassId} {s0 : State} {b0 : Addr} (Z : Z0 l dC dI dA s0 b0) (A : Nat → Prop) (sz : Nat) (hA : ∀ q : Nat, sz ≤ q → A q) {σ : Nat → Nat} (Y : SS (dC, dI) dA σ s0) (xa : Nat → Nat) (tl : Nat) (ec ep : Int32) (ga sg : Nat) (sr : Nat → Nat) (p0 q0 r0 : Nat) (rm rr : Nat → Nat) (Ms : Nat → MV) (a b : Int32) (sR : ∀ k, k < 8 → MSm (Ms k)) (pR : ∀ k, k < 8 → MSp (2 ^ (p0 + q0 + r0)) (Ms k)) : vx_Met l yX1_commute (wsW_ yX1_commute cX1_commute 6 (some .boolean) [((35 : Nat), (64 : Nat), (65 : Nat), (179 : Nat))]) ({ frames := 10, cells := 12, slots := 120, locals := 600 } : Room) (gP [.ref (xa 0), .int a, .int b] s0 A (fun H => H.size = sz ∧ RO A (dC, dI) [((xa 0), .inr (3, xFs xa tl ec ep)), ((xa 3), .inr (4, [.ref ga, .ref (xa 7)]))] H ∧ RO A (dC, dI) [((xa 7), .inl (dA 4, 8, .inr (.inr (.inr (.inr (fun k => some (rm k)))))))] H ∧ AG A (dC, dI) dA ga sg sr p0 q0 r0 H ∧ RG A (dC, dI) dA rm rr Ms H)) (va_Qi (S := Unit) (fun r9 _ => comX p0 q0 r0 Ms a b = (nI 0, r9)) (B1 (dC, dI) A (fun _ => []) (fun _ _ => True)) A) (vx_X (S := Unit) (fun _ => True) (fun _ E _ _ => (E = "java/lang/IndexOutOfBoundsException" ∧ comX p0 q0 r0 Ms a b = (nI 1, nI 0)) ∨ (E = "java/lang/ArithmeticException" ∧ comX p0 q0 r0 Ms a b = (nI 2, nI 0))) A) 12 120 A := by
  refine vx_ofWH (cc := cX1_commute) (maxL := 6) (ret := (some .boolean)) (by decide) rfl ?_
  intro p e s m args below meth c s₁ B hml hv
  obtain ⟨hav, hG, hsz, hR0, hR1, hAG, hRG⟩ := hv
  have hx := B.exec
  have hb := B.bytes
  have hr := B.returns
  have hts := atoms_spec (ws := (wsW_ yX1_commute cX1_commute 6 (some .boolean) [((35 : Nat), (64 : Nat), (65 : Nat), (179 : Nat))])) B.pre
  have hxt : c.exceptionTable.toList = [⟨35, 64, 65, 179⟩] := vx_table (x := yX1_commute) (y := yX1_commute) B (hts _ List.mem_cons_self)
  have hts : ∀ w ∈ lw_all, w.before _ s = true := fun w h => hts w (List.mem_cons_of_mem _ h)
  have hown : s.vm.findClass RX1 = some m.cls := findClass_of_methodNamed B.named
  have hlocks := B.notSynchronized
  have hK := hG.K Z
  subst hsz
  have hS : va_S A s.heap s.heap [] := va_S.rf
  have hP : va_P (dC, dI) vwCl [] s.heap := fun k q h => by simp at h
  have hD : va_D A [] := ⟨fun i j p q h => by simp at h, fun k q h => by simp at h⟩
  have hl := lv_entry ([.ref (xa 0), .int a, .int b]) (n := 6) (Nat.le_of_ble_eq_true rfl)
  rw [show entryFrame m args 6 = entryFrame m ([.ref (xa 0), .int a, .int b] : List Value).toArray 6 from by rw [hav], lg_entry_eq]
  generalize (lg_sl ([.ref (xa 0), .int a, .int b]) ++ List.replicate (6 - (lg_sl ([.ref (xa 0), .int a, .int b])).length) Slot.unset).toArray = ls at hl ⊢
  have hl : lv_has ls 6 [(0, .ref (xa 0)), (1, .int a), (2, .int b)] := hl
  generalize hQe : vx_MQ below _ _ _ s _ _ _ = Q
  change W p l e ({ frames := 10, cells := 12, slots := 120, locals := 600 } : Room) s m args below meth c s.heap [] 0 0 Q (F0 m 0 ls [])
  have hn := hAG.1
  have h5 := pow5 hn
  have hR2 := hAG.2.1
  refine lv_iconst (v := nI 2) hx hb dX1_commute_0 (by decide) ?_
  refine a_newa (D := (dC, dI)) (atype := .int) (N' := 2) (a0 := (2, .inl (fun _ => 0))) hx hb (hts _ q230) rfl hK hP hD hS hA 0 rfl (fun _ => ra_int) (fun _ => rfl) (by decide) (by decide) (by decide) (by first | decide | omega) (by first | decide | omega) dX1_commute_1 (fun na_1 H locs hP hD hS => ?_)
  have hP : va_P (dC, dI) vwCl [(na_1, .inl (dA 0, 2, .inl (fun _ => 0)))] H := hP
  have hD : va_D A [(na_1, .inl (dA 0, 2, .inl (fun _ => 0)))] := hD
  refine lv_dup hx hb dX1_commute_3 rfl ?_
  refine lv_iconst (v := nI 0) hx hb dX1_commute_4 (by decide) ?_
  refine lv_iload_n hx hb dX1_commute_5 rfl (lv_at hl 1 rfl) ?_
  refine a_iast hx hb hK hP hD hS 0 0 rfl rfl (by omega) (by omega) dX1_commute_6 (fun H locs hP hD hS => ?_)
  have hP : va_P (dC, dI) vwCl [(na_1, .inl (dA 0, 2, .inl (upd (fun _ => 0) 0 a)))] H := hP
  have hD : va_D A [(na_1, .inl (dA 0, 2, .inl (upd (fun _ => 0) 0 a)))] := hD
  refine lv_dup hx hb dX1_commute_7 rfl ?_
  refine lv_iconst (v := nI 1) hx hb dX1_commute_8 (by decide) ?_
  refine lv_iload_n hx hb dX1_commute_9 rfl (lv_at hl 2 rfl) ?_
  refine a_iast hx hb hK hP hD hS 0 0 rfl rfl (by omega) (by omega) dX1_commute_10 (fun H locs hP hD hS => ?_)
  have hP : va_P (dC, dI) vwCl [(na_1, .inl (dA 0, 2, .inl (upd (upd (fun _ => 0) 0 a) 1 b)))] H := hP
  have hD : va_D A [(na_1, .inl (dA 0, 2, .inl (upd (upd (fun _ => 0) 0 a) 1 b)))] := hD
  have hF9 := va_free (wc := []) hD hS (fun q h => hA q h) [] rfl
  refine x_v (wc := []) (wr := [(na_1, .inl (dA 0, 2, .inl (upd (upd (fun _ => 0) 0 a) 1 b)))]) (vx_runS (As := [.ref na_1]) (rest := []) ⟨hx, hb, hml, hown, hts⟩ (x1_registers Z (va_A [] H.size) H.size (fun q h => Or.inr h) Y na_1 2 (upd (upd (fun _ => 0) 0 a) 1 b) (by decide)) (va_cwS 1 hts (lw_S q469 q470 q96 q471) rfl rfl rfl (by decide +kernel) ⟨Nat.le_of_ble_eq_true rfl, Nat.le_of_ble_eq_true rfl⟩) (gP_S hG hS (fun q _ h => hF9 q h) ⟨rfl, (RO.beside (wr := [(na_1, .inl (dA 0, 2, .inl (upd (upd (fun _ => 0) 0 a) 1 b)))]) hP hD [] [0] rfl rfl (by decide))⟩) rfl rfl hl.1 rfl (lv_room (Nat.le_of_ble_eq_true rfl)) dX1_commute_11 ⟨by first | decide | omega | (show _ ≤ (12 : Nat); omega), by first | decide | omega | (show _ ≤ (120 : Nat); omega)⟩) hP hD hS hA [] [0] rfl rfl (by decide) (by decide) (fun E ce q9 u9 t9 H locs ht9 hp9 hb9 hz hP hS h1 h2 h3 => ?_) (fun u9 H locs hq hX hz hk hP hD hS => ?_)
  · have hD := hD.sub (ws' := [(na_1, .inl (dA 0, 2, .inl (upd (upd (fun _ => 0) 0 a) 1 b)))]) [0] (by decide) rfl
    have hP : va_P (dC, dI) vwCl [(na_1, .inl (dA 0, 2, .inl (upd (upd (fun _ => 0) 0 a) 1 b)))] H := hP
    have hD : va_D A [(na_1, .inl (dA 0, 2, .inl (upd (upd (fun _ => 0) 0 a) 1 b)))] := hD
    subst hb9
    subst hQe
    exact vx_outP hown hlocks (by rw [hxt]; exact (List.forall_mem_cons.mpr ⟨Or.inl (by decide), (fun _ h => nomatch h)⟩)) h1 h2 h3 (fun t10 e10 _ => ⟨(), trivial, (Or.inl (⟨rfl, com_1 (rgs2.symm.trans hp9)⟩)), hS.F e10⟩) hS.2.2 (by first | decide | omega) (by first | decide | omega)
  have hrg : (rgB a && rgB b) = true := rgs2.symm.trans hq
  clear hq
  have hP : va_P (dC, dI) vwCl [(na_1, .inl (dA 0, 2, .inl (upd (upd (fun _ => 0) 0 a) 1 b)))] H := hP
  have hD : va_D A [(na_1, .inl (dA 0, 2, .inl (upd (upd (fun _ => 0) 0 a) 1 b)))] := hD
  have hP0 := hP.sub (ws' := []) [] rfl
  have hD0 := hD.sub (ws' := []) [] (by decide) rfl
  have h8ja := inB_nat (by decide) (show inB a (nI 0) (nI 7) = true from (Bool.and_eq_true_iff.mp hrg).1)
  have h8jb := inB_nat (by decide) (show inB b (nI 0) (nI 7) = true from (Bool.and_eq_true_iff.mp hrg).2)
  obtain ⟨ja, h9ja, e8ja⟩ := h8ja
  obtain ⟨jb, h9jb, e8jb⟩ := h8jb
  have h7ja : ja < 8 := by omega
  subst e8ja
  have h7jb : jb < 8 := by omega
  subst e8jb
  have hP := hP0
  have hD := hD0
  refine lv_aload_n hx hb dX1_commute_14 rfl (lv_at hl 0 rfl) ?_
  refine va_get (D := (dC, dI)) (ci := 3) (v := .ref (xa 3)) (C := RX1) (T := TX1) (N := 9) hx hb hts in_X1 hown hK (hR0.up hS) 0 rfl rfl 2 (by decide) (hts _ q286) (fun _ h9 => h9) rfl dX1_commute_15 ?_
  refine va_getN (D := (dC, dI)) (ci := 4) (v := .ref (xa 7)) (C := RX4) (T := TX4) (N := 2) hx hb hts in_X4 hown hK (hR0.up hS) 1 rfl rfl 1 (by decide) (((va_Nw.warmF hG.1 (va_Nw.of rfl (Z.2.1 _ q243)))).use rfl) (fun _ h9 => h9) rfl dX1_commute_18 ?_
  refine lv_iload_n hx hb dX1_commute_21 rfl (lv_at hl 1 rfl) ?_
  refine a_aldq hx hb hK (hR1.up hS) 0 4 rfl rfl (by omega) (by decide) dX1_commute_22 ?_
  refine e_v (y := .ref (rm ja)) (rfl) ?_
  have hR3 := hRG ja (by omega)
  refine lv_astore_n (lv' := [(3, .ref (rm ja)), (0, .ref (xa 0)), (1, .int (nI ja)), (2, .int (nI jb))]) hx hb dX1_commute_23 rfl hl (by decide) rfl (fun ls hl => ?_)
  refine lv_aload_n hx hb dX1_commute_24 rfl (lv_at hl 1 rfl) ?_
  refine va_get (D := (dC, dI)) (ci := 3) (v := .ref (xa 3)) (C := RX1) (T := TX1) (N := 9) hx hb hts in_X1 hown hK (hR0.up hS) 0 rfl rfl 2 (by decide) (hts _ q286) (fun _ h9 => h9) rfl dX1_commute_25 ?_
  refine va_getN (D := (dC, dI)) (ci := 4) (v := .ref (xa 7)) (C := RX4) (T := TX4) (N := 2) hx hb hts in_X4 hown hK (hR0.up hS) 1 rfl rfl 1 (by decide) (((va_Nw.warmF hG.1 (va_Nw.of rfl (Z.2.1 _ q243)))).use rfl) (fun _ h9 => h9) rfl dX1_commute_28 ?_
  refine lv_iload_n hx hb dX1_commute_31 rfl (lv_at hl 3 rfl) ?_
  refine a_aldq hx hb hK (hR1.up hS) 0 4 rfl rfl (by omega) (by decide) dX1_commute_32 ?_
  refine e_v (y := .ref (rm jb)) (rfl) ?_
  have hR4 := hRG jb (by omega)
  refine lv_astore (lv' := [(4, .ref (rm jb)), (3, .ref (rm ja)), (0, .ref (xa 0)), (1, .int (nI ja)), (2, .int (nI jb))]) hx hb dX1_commute_33 hl (by decide) rfl (fun ls hl => ?_)
  refine lv_aload_n hx hb dX1_commute_35 rfl (lv_at hl 2 rfl) ?_
  refine va_get (D := (dC, dI)) (ci := 3) (v := .ref (xa 3)) (C := RX1) (T := TX1) (N := 9) hx hb hts in_X1 hown hK (hR0.up hS) 0 rfl rfl 2 (by decide) (hts _ q286) (fun _ h9 => h9) rfl dX1_commute_36 ?_
  refine va_getN (D := (dC, dI)) (ci := 4) (v := .ref ga) (C := RX4) (T := TX4) (N := 2) hx hb hts in_X4 hown hK (hR0.up hS) 1 rfl rfl 0 (by decide) (((va_Nw.warmF hG.1 (va_Nw.of rfl (Z.2.1 _ q240)))).use rfl) (fun _ h9 => h9) rfl dX1_commute_39 ?_
  refine lv_aload_n hx hb dX1_commute_42 rfl (lv_at hl 1 rfl) ?_
  refine lv_aload hx hb dX1_commute_43 (lv_at hl 0 rfl) ?_
  have hF9 := va_free (wc := []) hD hS (fun q h => hA q h) [] rfl
  refine x_r (wc := []) (wr := []) (vx_runV (As := [.ref (rm ja), .ref (rm jb)]) (rest := []) ⟨hx, hb, hml, hown, hts⟩ (x5_product2 Z (va_A [] H.size) H.size (fun q h => Or.inr h) Y ga sg sr p0 q0 r0 (rm ja) (rr ja) (Ms ja) (rm jb) (rr jb) (Ms jb) (sR ja (by omega)) (sR jb (by omega))) (cwV 2 hts (lw_V q859 q652 q653 q101 q654) rfl rfl rfl (by decide +kernel) ⟨Nat.le_of_ble_eq_true rfl, Nat.le_of_ble_eq_true rfl⟩) (gP_V (va_recv hK (hR2.up hS) (ci := 1) (q0 := 0) rfl rfl) hG hS (fun q _ h => hF9 q h) ⟨rfl, (hR3.to hS (fun q _ h => hF9 q h)), (hR4.to hS (fun q _ h => hF9 q h)), (hAG.to hS (fun q _ h => hF9 q h))⟩) rfl rfl hl.1 rfl (lv_room (Nat.le_of_ble_eq_true rfl)) dX1_commute_45 ⟨by first | decide | omega | (show _ ≤ (12 : Nat); omega), by first | decide | omega | (show _ ≤ (120 : Nat); omega)⟩) hP hD hS hA [] [] rfl rfl (by decide) (by decide) (fun E ce q9 u9 t9 H locs ht9 hp9 hb9 hz hP hS h1 h2 h3 => ?_) (fun u9 ra9 H locs hq hX hz hk hP hD hS => ?_)
  · have hD := hD.sub (ws' := []) [] (by decide) rfl
    have hP : va_P (dC, dI) vwCl [] H := hP
    have hD : va_D A [] := hD
    subst hb9
    refine vx_catch (name := "BladeAlgebra$Unfit") (E := "BladeAlgebra$Unfit") (ce := ce) hown [] ⟨35, 64, 65, 179⟩ [] hxt (fun _ h => nomatch h) (by decide) (by decide) (hts _ q468) (castZ Z hG q523) h1 h2 h3 ?_
    have hpU := hp9
    refine lv_astore (lv' := [(5, .ref q9), (4, .ref (rm jb)), (3, .ref (rm ja)), (0, .ref (xa 0)), (1, .int (nI ja)), (2, .int (nI jb))]) hx hb dX1_commute_65 hl (by decide) rfl (fun ls hl => ?_)
    have hF9 := va_free (wc := []) hD hS (fun q h => hA q h) [] rfl
    refine c_r (wr := []) (va_runS (As := []) (rest := []) ⟨hx, hb, hml, hown, hts⟩ (x1_large Z (va_A [] H.size) H.size (fun q h => Or.inr h) Y) (va_cwS 0 hts (lw_S q562 q563 q96 q564) rfl rfl rfl (by decide +kernel) ⟨Nat.le_of_ble_eq_true rfl, Nat.le_of_ble_eq_true rfl⟩) (gP_S hG hS (fun q _ h => hF9 q h) rfl) rfl rfl hl.1 rfl (lv_room (Nat.le_of_ble_eq_true rfl)) dX1_commute_67 ⟨by first | decide | omega | (show _ ≤ (12 : Nat); omega), by first | decide | omega | (show _ ≤ (120 : Nat); omega)⟩) hP hD hS hA [] [] rfl rfl (by decide) (by decide) (fun u9 ra9 H locs hq hX hz hk hP hD hS => ?_)
    obtain ⟨ra_2, rfl⟩ : ∃ z, z = ra9 := ⟨_, rfl⟩
    have hP : va_P (dC, dI) vwCl [(ra_2, .inr (17, []))] H := hP
    have hD : va_D A [(ra_2, .inr (17, []))] := hD
    refine vx_athrow hx hb dX1_commute_70 ?_
    obtain ⟨ce, h1, h2, h3⟩ := va_thr hK hP (ci := 17) (q0 := 0) rfl rfl
    subst hQe
    exact vx_outP hown hlocks (by rw [hxt]; exact (List.forall_mem_cons.mpr ⟨Or.inl (by decide), (fun _ h => nomatch h)⟩)) h1 h2 h3 (fun t10 e10 _ => ⟨(), trivial, (Or.inr (⟨rfl, com_2 h7ja h7jb hpU⟩)), hS.F e10⟩) hS.2.2 (by first | decide | omega) (by first | decide | omega)
  obtain ⟨ra_3, rfl⟩ : ∃ z, z = ra9 := ⟨_, rfl⟩
  obtain ⟨mr_3, M_3⟩ := u9
  have e_3 := hq
  have sm_3 : MSm M_3 := mulS_sm (sR ja (by omega)) (sR jb (by omega)) e_3
  clear hq
  have hP : va_P (dC, dI) vwCl [(ra_3, .inr (0, [.ref mr_3, .long (M_3 0)])), (mr_3, .inl (dA 1, 32, .inr (.inl (fun j => M_3 (j + 1)))))] H := hP
  have hD : va_D A [(ra_3, .inr (0, [.ref mr_3, .long (M_3 0)])), (mr_3, .inl (dA 1, 32, .inr (.inl (fun j => M_3 (j + 1)))))] := hD
  refine lv_aload_n hx hb dX1_commute_48 rfl (lv_at hl 2 rfl) ?_
  refine va_get (D := (dC, dI)) (ci := 3) (v := .ref (xa 3)) (C := RX1) (T := TX1) (N := 9) hx hb hts in_X1 hown hK (hR0.up hS) 0 rfl rfl 2 (by decide) (hts _ q286) (fun _ h9 => h9) rfl dX1_commute_49 ?_
  refine va_getN (D := (dC, dI)) (ci := 4) (v := .ref ga) (C := RX4) (T := TX4) (N := 2) hx hb hts in_X4 hown hK (hR0.up hS) 1 rfl rfl 0 (by decide) (((va_Nw.warmF hG.1 (va_Nw.of rfl (Z.2.1 _ q240)))).use rfl) (fun _ h9 => h9) rfl dX1_commute_52 ?_
  refine lv_aload hx hb dX1_commute_55 (lv_at hl 0 rfl) ?_
  refine lv_aload_n hx hb dX1_commute_57 rfl (lv_at hl 1 rfl) ?_
  have hF9 := va_free (wc := []) hD hS (fun q h => hA q h) [] rfl
  refine x_r (wc := []) (wr := [(ra_3, .inr (0, [.ref mr_3, .long (M_3 0)])), (mr_3, .inl (dA 1, 32, .inr (.inl (fun j => M_3 (j + 1)))))]) (vx_runV (As := [.ref (rm jb), .ref (rm ja)]) (rest := [.ref ra_3]) ⟨hx, hb, hml, hown, hts⟩ (x5_product2 Z (va_A [] H.size) H.size (fun q h => Or.inr h) Y ga sg sr p0 q0 r0 (rm jb) (rr jb) (Ms jb) (rm ja) (rr ja) (Ms ja) (sR jb (by omega)) (sR ja (by omega))) (cwV 2 hts (lw_V q859 q652 q653 q101 q654) rfl rfl rfl (by decide +kernel) ⟨Nat.le_of_ble_eq_true rfl, Nat.le_of_ble_eq_true rfl⟩) (gP_V (va_recv hK (hR2.up hS) (ci := 1) (q0 := 0) rfl rfl) hG hS (fun q _ h => hF9 q h) ⟨rfl, (hR4.to hS (fun q _ h => hF9 q h)), (hR3.to hS (fun q _ h => hF9 q h)), (hAG.to hS (fun q _ h => hF9 q h))⟩) rfl rfl hl.1 rfl (lv_room (Nat.le_of_ble_eq_true rfl)) dX1_commute_58 ⟨by first | decide | omega | (show _ ≤ (12 : Nat); omega), by first | decide | omega | (show _ ≤ (120 : Nat); omega)⟩) hP hD hS hA [] [0, 1] rfl rfl (by decide) (by decide) (fun E ce q9 u9 t9 H locs ht9 hp9 hb9 hz hP hS h1 h2 h3 => ?_) (fun u9 ra9 H locs hq hX hz hk hP hD hS => ?_)
  · have hD := hD.sub (ws' := [(ra_3, .inr (0, [.ref mr_3, .long (M_3 0)])), (mr_3, .inl (dA 1, 32, .inr (.inl (fun j => M_3 (j + 1)))))]) [0, 1] (by decide) rfl
    have hP : va_P (dC, dI) vwCl [(ra_3, .inr (0, [.ref mr_3, .long (M_3 0)])), (mr_3, .inl (dA 1, 32, .inr (.inl (fun j => M_3 (j + 1)))))] H := hP
    have hD : va_D A [(ra_3, .inr (0, [.ref mr_3, .long (M_3 0)])), (mr_3, .inl (dA 1, 32, .inr (.inl (fun j => M_3 (j + 1)))))] := hD
    subst hb9
    refine vx_catch (name := "BladeAlgebra$Unfit") (E := "BladeAlgebra$Unfit") (ce := ce) hown [] ⟨35, 64, 65, 179⟩ [] hxt (fun _ h => nomatch h) (by decide) (by decide) (hts _ q468) (castZ Z hG q523) h1 h2 h3 ?_
    have hpU := hp9
    refine lv_astore (lv' := [(5, .ref q9), (4, .ref (rm jb)), (3, .ref (rm ja)), (0, .ref (xa 0)), (1, .int (nI ja)), (2, .int (nI jb))]) hx hb dX1_commute_65 hl (by decide) rfl (fun ls hl => ?_)
    have hF9 := va_free (wc := []) hD hS (fun q h => hA q h) [] rfl
    refine c_r (wr := [(ra_3, .inr (0, [.ref mr_3, .long (M_3 0)])), (mr_3, .inl (dA 1, 32, .inr (.inl (fun j => M_3 (j + 1)))))]) (va_runS (As := []) (rest := []) ⟨hx, hb, hml, hown, hts⟩ (x1_large Z (va_A [] H.size) H.size (fun q h => Or.inr h) Y) (va_cwS 0 hts (lw_S q562 q563 q96 q564) rfl rfl rfl (by decide +kernel) ⟨Nat.le_of_ble_eq_true rfl, Nat.le_of_ble_eq_true rfl⟩) (gP_S hG hS (fun q _ h => hF9 q h) rfl) rfl rfl hl.1 rfl (lv_room (Nat.le_of_ble_eq_true rfl)) dX1_commute_67 ⟨by first | decide | omega | (show _ ≤ (12 : Nat); omega), by first | decide | omega | (show _ ≤ (120 : Nat); omega)⟩) hP hD hS hA [] [0, 1] rfl rfl (by decide) (by decide) (fun u9 ra9 H locs hq hX hz hk hP hD hS => ?_)
    obtain ⟨ra_4, rfl⟩ : ∃ z, z = ra9 := ⟨_, rfl⟩
    have hP : va_P (dC, dI) vwCl [(ra_3, .inr (0, [.ref mr_3, .long (M_3 0)])), (mr_3, .inl (dA 1, 32, .inr (.inl (fun j => M_3 (j + 1))))), (ra_4, .inr (17, []))] H := hP
    have hD : va_D A [(ra_3, .inr (0, [.ref mr_3, .long (M_3 0)])), (mr_3, .inl (dA 1, 32, .inr (.inl (fun j => M_3 (j + 1))))), (ra_4, .inr (17, []))] := hD
    refine vx_athrow hx hb dX1_commute_70 ?_
    obtain ⟨ce, h1, h2, h3⟩ := va_thr hK hP (ci := 17) (q0 := 2) rfl rfl
    subst hQe
    exact vx_outP hown hlocks (by rw [hxt]; exact (List.forall_mem_cons.mpr ⟨Or.inl (by decide), (fun _ h => nomatch h)⟩)) h1 h2 h3 (fun t10 e10 _ => ⟨(), trivial, (Or.inr (⟨rfl, com_3 h7ja h7jb e_3 hpU⟩)), hS.F e10⟩) hS.2.2 (by first | decide | omega) (by first | decide | omega)
  obtain ⟨ra_5, rfl⟩ : ∃ z, z = ra9 := ⟨_, rfl⟩
  obtain ⟨mr_5, M_5⟩ := u9
  have e_5 := hq
  have sm_5 : MSm M_5 := mulS_sm (sR jb (by omega)) (sR ja (by omega)) e_5
  clear hq
  have hP : va_P (dC, dI) vwCl [(ra_3, .inr (0, [.ref mr_3, .long (M_3 0)])), (mr_3, .inl (dA 1, 32, .inr (.inl (fun j => M_3 (j + 1))))), (ra_5, .inr (0, [.ref mr_5, .long (M_5 0)])), (mr_5, .inl (dA 1, 32, .inr (.inl (fun j => M_5 (j + 1)))))] H := hP
  have hD : va_D A [(ra_3, .inr (0, [.ref mr_3, .long (M_3 0)])), (mr_3, .inl (dA 1, 32, .inr (.inl (fun j => M_3 (j + 1))))), (ra_5, .inr (0, [.ref mr_5, .long (M_5 0)])), (mr_5, .inl (dA 1, 32, .inr (.inl (fun j => M_5 (j + 1)))))] := hD
  refine s_i (va_runV (As := [.ref ra_5]) (rest := []) ⟨hx, hb, hml, hown, hts⟩ (x6_isLike Z ra_3 mr_3 ra_5 mr_5 M_3 M_5) (cwV 1 hts (lw_V q1061 q1062 q1063 q102 q1064) rfl rfl rfl (by decide +kernel) ⟨Nat.le_of_ble_eq_true rfl, Nat.le_of_ble_eq_true rfl⟩) (gP_V (va_recv hK hP (ci := 0) (q0 := 0) rfl rfl) hG hS (fun q _ h => h.elim) (hP.sub (ws' := [(ra_3, .inr (0, [.ref mr_3, .long (M_3 0)])), (mr_3, .inl (dA 1, 32, .inr (.inl (fun j => M_3 (j + 1))))), (ra_5, .inr (0, [.ref mr_5, .long (M_5 0)])), (mr_5, .inl (dA 1, 32, .inr (.inl (fun j => M_5 (j + 1)))))]) [0, 1, 2, 3] rfl)) rfl rfl hl.1 rfl (lv_room (Nat.le_of_ble_eq_true rfl)) dX1_commute_61 ⟨by first | decide | omega | (show _ ≤ (12 : Nat); omega), by first | decide | omega | (show _ ≤ (120 : Nat); omega)⟩) ?_
  subst hQe
  refine vx_ret ?_
  refine W.widen (k := 12) (n := 120) (by first | decide | omega) (by first | decide | omega) ?_
  exact W.zret (v := bI (likeB M_3 M_5 33)) hx hb hr (bI_z _) (fun tz ht hW => ⟨⟨_, (), rfl, (com_ok h7ja h7jb e_3 e_5), B1_at ht (hP.sub [] rfl) (hD.sub [] (by decide) rfl) trivial⟩, hS.F ht⟩) hS.2.2 dX1_commute_64
set_option maxHeartbeats 4000000 in
theorem x1_squareKind {l : Launch} {dC : Nat → ClassId} {dI : Nat → Nat → Nat} {dA : Nat → ClassId} {s0 : State} {b0 : Addr} (Z : Z0 l dC dI dA s0 b0) (A : Nat → Prop) (sz : Nat) (hA : ∀ q : Nat, sz ≤ q → A q) {σ : Nat → Nat} (Y : SS (dC, dI) dA σ s0) (xa : Nat → Nat) (tl : Nat) (ec ep : Int32) (ga sg : Nat) (sr : Nat → Nat) (p0 q0 r0 : Nat) (rm rr : Nat → Nat) (Ms : Nat → MV) (a : Int32) (sR : ∀ k, k < 8 → MSm (Ms k)) (pR : ∀ k, k < 8 → MSp (2 ^ (p0 + q0 + r0)) (Ms k)) : vx_Met l yX1_squareKind (wsW_ yX1_squareKind cX1_squareKind 3 (some .int) [((10 : Nat), (47 : Nat), (80 : Nat), (179 : Nat)), ((48 : Nat), (79 : Nat), (80 : Nat), (179 : Nat))]) ({ frames := 10, cells := 10, slots := 120, locals := 600 } : Room) (gP [.ref (xa 0), .int a] s0 A (fun H => H.size = sz ∧ RO A (dC, dI) [((xa 0), .inr (3, xFs xa tl ec ep)), ((xa 3), .inr (4, [.ref ga, .ref (xa 7)]))] H ∧ RO A (dC, dI) [((xa 7), .inl (dA 4, 8, .inr (.inr (.inr (.inr (fun k => some (rm k)))))))] H ∧ AG A (dC, dI) dA ga sg sr p0 q0 r0 H ∧ RG A (dC, dI) dA rm rr Ms H)) (va_Qi (S := Unit) (fun r9 _ => sqkX p0 q0 r0 Ms a = (nI 0, r9)) (B1 (dC, dI) A (fun _ => []) (fun _ _ => True)) A) (vx_X (S := Unit) (fun _ => True) (fun _ E _ _ => (E = "java/lang/IndexOutOfBoundsException" ∧ sqkX p0 q0 r0 Ms a = (nI 1, nI 0)) ∨ (E = "java/lang/ArithmeticException" ∧ sqkX p0 q0 r0 Ms a = (nI 2, nI 0))) A) 10 120 A := by
  refine vx_ofWH (cc := cX1_squareKind) (maxL := 3) (ret := (some .int)) (by decide) rfl ?_
  intro p e s m args below meth c s₁ B hml hv
  obtain ⟨hav, hG, hsz, hR0, hR1, hAG, hRG⟩ := hv
  have hx := B.exec
  have hb := B.bytes
  have hr := B.returns
  have hts := atoms_spec (ws := (wsW_ yX1_squareKind cX1_squareKind 3 (some .int) [((10 : Nat), (47 : Nat), (80 : Nat), (179 : Nat)), ((48 : Nat), (79 : Nat), (80 : Nat), (179 : Nat))])) B.pre
  have hxt : c.exceptionTable.toList = [⟨10, 47, 80, 179⟩, ⟨48, 79, 80, 179⟩] := vx_table (x := yX1_squareKind) (y := yX1_squareKind) B (hts _ List.mem_cons_self)
  have hts : ∀ w ∈ lw_all, w.before _ s = true := fun w h => hts w (List.mem_cons_of_mem _ h)
  have hown : s.vm.findClass RX1 = some m.cls := findClass_of_methodNamed B.named
  have hlocks := B.notSynchronized
  have hK := hG.K Z
  subst hsz
  have hS : va_S A s.heap s.heap [] := va_S.rf
  have hP : va_P (dC, dI) vwCl [] s.heap := fun k q h => by simp at h
  have hD : va_D A [] := ⟨fun i j p q h => by simp at h, fun k q h => by simp at h⟩
  have hl := lv_entry ([.ref (xa 0), .int a]) (n := 3) (Nat.le_of_ble_eq_true rfl)
  rw [show entryFrame m args 3 = entryFrame m ([.ref (xa 0), .int a] : List Value).toArray 3 from by rw [hav], lg_entry_eq]
  generalize (lg_sl ([.ref (xa 0), .int a]) ++ List.replicate (3 - (lg_sl ([.ref (xa 0), .int a])).length) Slot.unset).toArray = ls at hl ⊢
  have hl : lv_has ls 3 [(0, .ref (xa 0)), (1, .int a)] := hl
  generalize hQe : vx_MQ below _ _ _ s _ _ _ = Q
  change W p l e ({ frames := 10, cells := 10, slots := 120, locals := 600 } : Room) s m args below meth c s.heap [] 0 0 Q (F0 m 0 ls [])
  have hn := hAG.1
  have h5 := pow5 hn
  have hR2 := hAG.2.1
  refine lv_iconst (v := nI 1) hx hb dX1_squareKind_0 (by decide) ?_
  refine a_newa (D := (dC, dI)) (atype := .int) (N' := 1) (a0 := (1, .inl (fun _ => 0))) hx hb (hts _ q230) rfl hK hP hD hS hA 0 rfl (fun _ => ra_int) (fun _ => rfl) (by decide) (by decide) (by decide) (by first | decide | omega) (by first | decide | omega) dX1_squareKind_1 (fun na_1 H locs hP hD hS => ?_)
  have hP : va_P (dC, dI) vwCl [(na_1, .inl (dA 0, 1, .inl (fun _ => 0)))] H := hP
  have hD : va_D A [(na_1, .inl (dA 0, 1, .inl (fun _ => 0)))] := hD
  refine lv_dup hx hb dX1_squareKind_3 rfl ?_
  refine lv_iconst (v := nI 0) hx hb dX1_squareKind_4 (by decide) ?_
  refine lv_iload_n hx hb dX1_squareKind_5 rfl (lv_at hl 1 rfl) ?_
  refine a_iast hx hb hK hP hD hS 0 0 rfl rfl (by omega) (by omega) dX1_squareKind_6 (fun H locs hP hD hS => ?_)
  have hP : va_P (dC, dI) vwCl [(na_1, .inl (dA 0, 1, .inl (upd (fun _ => 0) 0 a)))] H := hP
  have hD : va_D A [(na_1, .inl (dA 0, 1, .inl (upd (fun _ => 0) 0 a)))] := hD
  have hF9 := va_free (wc := []) hD hS (fun q h => hA q h) [] rfl
  refine x_v (wc := []) (wr := [(na_1, .inl (dA 0, 1, .inl (upd (fun _ => 0) 0 a)))]) (vx_runS (As := [.ref na_1]) (rest := []) ⟨hx, hb, hml, hown, hts⟩ (x1_registers Z (va_A [] H.size) H.size (fun q h => Or.inr h) Y na_1 1 (upd (fun _ => 0) 0 a) (by decide)) (va_cwS 1 hts (lw_S q469 q470 q96 q471) rfl rfl rfl (by decide +kernel) ⟨Nat.le_of_ble_eq_true rfl, Nat.le_of_ble_eq_true rfl⟩) (gP_S hG hS (fun q _ h => hF9 q h) ⟨rfl, (RO.beside (wr := [(na_1, .inl (dA 0, 1, .inl (upd (fun _ => 0) 0 a)))]) hP hD [] [0] rfl rfl (by decide))⟩) rfl rfl hl.1 rfl (lv_room (Nat.le_of_ble_eq_true rfl)) dX1_squareKind_7 ⟨by first | decide | omega | (show _ ≤ (10 : Nat); omega), by first | decide | omega | (show _ ≤ (120 : Nat); omega)⟩) hP hD hS hA [] [0] rfl rfl (by decide) (by decide) (fun E ce q9 u9 t9 H locs ht9 hp9 hb9 hz hP hS h1 h2 h3 => ?_) (fun u9 H locs hq hX hz hk hP hD hS => ?_)
  · have hD := hD.sub (ws' := [(na_1, .inl (dA 0, 1, .inl (upd (fun _ => 0) 0 a)))]) [0] (by decide) rfl
    have hP : va_P (dC, dI) vwCl [(na_1, .inl (dA 0, 1, .inl (upd (fun _ => 0) 0 a)))] H := hP
    have hD : va_D A [(na_1, .inl (dA 0, 1, .inl (upd (fun _ => 0) 0 a)))] := hD
    subst hb9
    subst hQe
    exact vx_outP hown hlocks (by rw [hxt]; exact (List.forall_mem_cons.mpr ⟨Or.inl (by decide), (List.forall_mem_cons.mpr ⟨Or.inl (by decide), (fun _ h => nomatch h)⟩)⟩)) h1 h2 h3 (fun t10 e10 _ => ⟨(), trivial, (Or.inl (⟨rfl, sqk_n (rgs1.symm.trans hp9)⟩)), hS.F e10⟩) hS.2.2 (by first | decide | omega) (by first | decide | omega)
  have hrg : (rgB a) = true := rgs1.symm.trans hq
  clear hq
  have hP : va_P (dC, dI) vwCl [(na_1, .inl (dA 0, 1, .inl (upd (fun _ => 0) 0 a)))] H := hP
  have hD : va_D A [(na_1, .inl (dA 0, 1, .inl (upd (fun _ => 0) 0 a)))] := hD
  have hP0 := hP.sub (ws' := []) [] rfl
  have hD0 := hD.sub (ws' := []) [] (by decide) rfl
  have h8ja := inB_nat (by decide) (show inB a (nI 0) (nI 7) = true from hrg)
  obtain ⟨ja, h9ja, e8ja⟩ := h8ja
  have h7ja : ja < 8 := by omega
  subst e8ja
  have hP := hP0
  have hD := hD0
  refine lv_aload_n hx hb dX1_squareKind_10 rfl (lv_at hl 0 rfl) ?_
  refine va_get (D := (dC, dI)) (ci := 3) (v := .ref (xa 3)) (C := RX1) (T := TX1) (N := 9) hx hb hts in_X1 hown hK (hR0.up hS) 0 rfl rfl 2 (by decide) (hts _ q286) (fun _ h9 => h9) rfl dX1_squareKind_11 ?_
  refine va_getN (D := (dC, dI)) (ci := 4) (v := .ref ga) (C := RX4) (T := TX4) (N := 2) hx hb hts in_X4 hown hK (hR0.up hS) 1 rfl rfl 0 (by decide) (((va_Nw.warmF hG.1 (va_Nw.of rfl (Z.2.1 _ q240)))).use rfl) (fun _ h9 => h9) rfl dX1_squareKind_14 ?_
  refine lv_aload_n hx hb dX1_squareKind_17 rfl (lv_at hl 0 rfl) ?_
  refine va_get (D := (dC, dI)) (ci := 3) (v := .ref (xa 3)) (C := RX1) (T := TX1) (N := 9) hx hb hts in_X1 hown hK (hR0.up hS) 0 rfl rfl 2 (by decide) (hts _ q286) (fun _ h9 => h9) rfl dX1_squareKind_18 ?_
  refine va_getN (D := (dC, dI)) (ci := 4) (v := .ref (xa 7)) (C := RX4) (T := TX4) (N := 2) hx hb hts in_X4 hown hK (hR0.up hS) 1 rfl rfl 1 (by decide) (((va_Nw.warmF hG.1 (va_Nw.of rfl (Z.2.1 _ q243)))).use rfl) (fun _ h9 => h9) rfl dX1_squareKind_21 ?_
  refine lv_iload_n hx hb dX1_squareKind_24 rfl (lv_at hl 1 rfl) ?_
  refine a_aldq hx hb hK (hR1.up hS) 0 4 rfl rfl (by omega) (by decide) dX1_squareKind_25 ?_
  refine e_v (y := .ref (rm ja)) (rfl) ?_
  have hR3 := hRG ja (by omega)
  refine lv_aload_n hx hb dX1_squareKind_26 rfl (lv_at hl 0 rfl) ?_
  refine va_get (D := (dC, dI)) (ci := 3) (v := .ref (xa 3)) (C := RX1) (T := TX1) (N := 9) hx hb hts in_X1 hown hK (hR0.up hS) 0 rfl rfl 2 (by decide) (hts _ q286) (fun _ h9 => h9) rfl dX1_squareKind_27 ?_
  refine va_getN (D := (dC, dI)) (ci := 4) (v := .ref (xa 7)) (C := RX4) (T := TX4) (N := 2) hx hb hts in_X4 hown hK (hR0.up hS) 1 rfl rfl 1 (by decide) (((va_Nw.warmF hG.1 (va_Nw.of rfl (Z.2.1 _ q243)))).use rfl) (fun _ h9 => h9) rfl dX1_squareKind_30 ?_
  refine lv_iload_n hx hb dX1_squareKind_33 rfl (lv_at hl 1 rfl) ?_
  refine a_aldq hx hb hK (hR1.up hS) 0 4 rfl rfl (by omega) (by decide) dX1_squareKind_34 ?_
  refine e_v (y := .ref (rm ja)) (rfl) ?_
  have hF9 := va_free (wc := []) hD hS (fun q h => hA q h) [] rfl
  refine x_r (wc := []) (wr := []) (vx_runV (As := [.ref (rm ja), .ref (rm ja)]) (rest := []) ⟨hx, hb, hml, hown, hts⟩ (x5_product2 Z (va_A [] H.size) H.size (fun q h => Or.inr h) Y ga sg sr p0 q0 r0 (rm ja) (rr ja) (Ms ja) (rm ja) (rr ja) (Ms ja) (sR ja (by omega)) (sR ja (by omega))) (cwV 2 hts (lw_V q859 q652 q653 q101 q654) rfl rfl rfl (by decide +kernel) ⟨Nat.le_of_ble_eq_true rfl, Nat.le_of_ble_eq_true rfl⟩) (gP_V (va_recv hK (hR2.up hS) (ci := 1) (q0 := 0) rfl rfl) hG hS (fun q _ h => hF9 q h) ⟨rfl, (hR3.to hS (fun q _ h => hF9 q h)), (hR3.to hS (fun q _ h => hF9 q h)), (hAG.to hS (fun q _ h => hF9 q h))⟩) rfl rfl hl.1 rfl (lv_room (Nat.le_of_ble_eq_true rfl)) dX1_squareKind_35 ⟨by first | decide | omega | (show _ ≤ (10 : Nat); omega), by first | decide | omega | (show _ ≤ (120 : Nat); omega)⟩) hP hD hS hA [] [] rfl rfl (by decide) (by decide) (fun E ce q9 u9 t9 H locs ht9 hp9 hb9 hz hP hS h1 h2 h3 => ?_) (fun u9 ra9 H locs hq hX hz hk hP hD hS => ?_)
  · have hD := hD.sub (ws' := []) [] (by decide) rfl
    have hP : va_P (dC, dI) vwCl [] H := hP
    have hD : va_D A [] := hD
    subst hb9
    refine vx_catch (name := "BladeAlgebra$Unfit") (E := "BladeAlgebra$Unfit") (ce := ce) hown [] ⟨10, 47, 80, 179⟩ [⟨48, 79, 80, 179⟩] hxt (fun _ h => nomatch h) (by decide) (by decide) (hts _ q468) (castZ Z hG q523) h1 h2 h3 ?_
    have hpU := hp9
    refine lv_astore_n (lv' := [(2, .ref q9), (0, .ref (xa 0)), (1, .int (nI ja))]) hx hb dX1_squareKind_80 rfl hl (by decide) rfl (fun ls hl => ?_)
    have hF9 := va_free (wc := []) hD hS (fun q h => hA q h) [] rfl
    refine c_r (wr := []) (va_runS (As := []) (rest := []) ⟨hx, hb, hml, hown, hts⟩ (x1_large Z (va_A [] H.size) H.size (fun q h => Or.inr h) Y) (va_cwS 0 hts (lw_S q562 q563 q96 q564) rfl rfl rfl (by decide +kernel) ⟨Nat.le_of_ble_eq_true rfl, Nat.le_of_ble_eq_true rfl⟩) (gP_S hG hS (fun q _ h => hF9 q h) rfl) rfl rfl hl.1 rfl (lv_room (Nat.le_of_ble_eq_true rfl)) dX1_squareKind_81 ⟨by first | decide | omega | (show _ ≤ (10 : Nat); omega), by first | decide | omega | (show _ ≤ (120 : Nat); omega)⟩) hP hD hS hA [] [] rfl rfl (by decide) (by decide) (fun u9 ra9 H locs hq hX hz hk hP hD hS => ?_)
    obtain ⟨ra_2, rfl⟩ : ∃ z, z = ra9 := ⟨_, rfl⟩
    have hP : va_P (dC, dI) vwCl [(ra_2, .inr (17, []))] H := hP
    have hD : va_D A [(ra_2, .inr (17, []))] := hD
    refine vx_athrow hx hb dX1_squareKind_84 ?_
    obtain ⟨ce, h1, h2, h3⟩ := va_thr hK hP (ci := 17) (q0 := 0) rfl rfl
    subst hQe
    exact vx_outP hown hlocks (by rw [hxt]; exact (List.forall_mem_cons.mpr ⟨Or.inl (by decide), (List.forall_mem_cons.mpr ⟨Or.inl (by decide), (fun _ h => nomatch h)⟩)⟩)) h1 h2 h3 (fun t10 e10 _ => ⟨(), trivial, (Or.inr (⟨rfl, sqk_x h7ja hpU⟩)), hS.F e10⟩) hS.2.2 (by first | decide | omega) (by first | decide | omega)
  obtain ⟨ra_3, rfl⟩ : ∃ z, z = ra9 := ⟨_, rfl⟩
  obtain ⟨mr_3, M_3⟩ := u9
  have e_3 := hq
  have sm_3 : MSm M_3 := mulS_sm (sR ja (by omega)) (sR ja (by omega)) e_3
  clear hq
  have hP : va_P (dC, dI) vwCl [(ra_3, .inr (0, [.ref mr_3, .long (M_3 0)])), (mr_3, .inl (dA 1, 32, .inr (.inl (fun j => M_3 (j + 1)))))] H := hP
  have hD : va_D A [(ra_3, .inr (0, [.ref mr_3, .long (M_3 0)])), (mr_3, .inl (dA 1, 32, .inr (.inl (fun j => M_3 (j + 1)))))] := hD
  refine lv_astore_n (lv' := [(2, .ref ra_3), (0, .ref (xa 0)), (1, .int (nI ja))]) hx hb dX1_squareKind_38 rfl hl (by decide) rfl (fun ls hl => ?_)
  refine lv_aload_n hx hb dX1_squareKind_39 rfl (lv_at hl 0 rfl) ?_
  obtain ⟨gr, Yg⟩ : ∃ g, SG (dC, dI) dA g s0 := ⟨_, SS.gr Y⟩
  refine s_i (va_runV (As := []) (rest := []) ⟨hx, hb, hml, hown, hts⟩ (x6_isScalar Z gr Yg ra_3 mr_3 M_3) (cwV 0 hts (lw_V q1107 q1108 q1109 q102 q1110) rfl rfl rfl (by decide +kernel) ⟨Nat.le_of_ble_eq_true rfl, Nat.le_of_ble_eq_true rfl⟩) (gP_V (va_recv hK hP (ci := 0) (q0 := 0) rfl rfl) hG hS (fun q _ h => h.elim) (hP.sub (ws' := [(ra_3, .inr (0, [.ref mr_3, .long (M_3 0)])), (mr_3, .inl (dA 1, 32, .inr (.inl (fun j => M_3 (j + 1)))))]) [0, 1] rfl)) rfl rfl hl.1 rfl (lv_room (Nat.le_of_ble_eq_true rfl)) dX1_squareKind_40 ⟨by first | decide | omega | (show _ ≤ (10 : Nat); omega), by first | decide | omega | (show _ ≤ (120 : Nat); omega)⟩) ?_
  refine lv_if_ne (tgt := 48) hx hb dX1_squareKind_43 (by decide) (fun c_43 => ?_) (fun c_43 => ?_)
  · have hsc := of_decide_eq_true (bI_1 c_43)
    refine lv_aload_n hx hb dX1_squareKind_48 rfl (lv_at hl 0 rfl) ?_
    refine va_getN (D := (dC, dI)) (ci := 0) (v := .ref mr_3) (C := RX6) (T := TX6) (N := 2) hx hb hts in_X6 hown hK hP 0 rfl rfl 0 (by decide) (((va_Nw.warmF hG.1 (va_Nw.of rfl (Z.2.1 _ q552)))).use rfl) (fun _ h9 => h9) rfl dX1_squareKind_49 ?_
    refine lv_iconst (v := nI 0) hx hb dX1_squareKind_52 (by decide) ?_
    refine a_lald hx hb hK hP 1 1 rfl rfl (by omega) (by omega) dX1_squareKind_53 ?_
    refine e_l (y := M_3 1) (rfl) ?_
    refine lv_lconst (v := 0) hx hb dX1_squareKind_54 rfl ?_
    refine W.lcmp hx hb dX1_squareKind_55 ?_
    refine lv_if_le (tgt := 63) hx hb dX1_squareKind_56 (by decide) (fun c_56 => ?_) (fun c_56 => ?_)
    · have c_56 : (M_3 1) ≤ 0 := (lg_cmp_le _ _).mp c_56
      refine lv_aload_n hx hb dX1_squareKind_63 rfl (lv_at hl 0 rfl) ?_
      refine va_getN (D := (dC, dI)) (ci := 0) (v := .ref mr_3) (C := RX6) (T := TX6) (N := 2) hx hb hts in_X6 hown hK hP 0 rfl rfl 0 (by decide) (((va_Nw.warmF hG.1 (va_Nw.of rfl (Z.2.1 _ q552)))).use rfl) (fun _ h9 => h9) rfl dX1_squareKind_64 ?_
      refine lv_iconst (v := nI 0) hx hb dX1_squareKind_67 (by decide) ?_
      refine a_lald hx hb hK hP 1 1 rfl rfl (by omega) (by omega) dX1_squareKind_68 ?_
      refine e_l (y := M_3 1) (rfl) ?_
      refine lv_lconst (v := 0) hx hb dX1_squareKind_69 rfl ?_
      refine W.lcmp hx hb dX1_squareKind_70 ?_
      refine lv_if_ge (tgt := 78) hx hb dX1_squareKind_71 (by decide) (fun c_71 => ?_) (fun c_71 => ?_)
      · have c_71 : 0 ≤ (M_3 1) := (lg_cmp_ge _ _).mp c_71
        refine lv_iconst (v := nI 3) hx hb dX1_squareKind_78 (by decide) ?_
        subst hQe
        refine vx_ret ?_
        refine W.widen (k := 10) (n := 120) (by first | decide | omega) (by first | decide | omega) ?_
        exact W.iret (v := nI 3) hx hb hr (fun tz ht hW => ⟨⟨_, (), rfl, (sqk_3 h7ja e_3 hsc c_56 c_71), B1_at ht (hP.sub [] rfl) (hD.sub [] (by decide) rfl) trivial⟩, hS.F ht⟩) hS.2.2 dX1_squareKind_79
      · have c_71 : ¬ 0 ≤ (M_3 1) := fun h => c_71 ((lg_cmp_ge _ _).mpr h)
        refine lv_iconst (v := nI 2) hx hb dX1_squareKind_74 (by decide) ?_
        refine lv_goto (tgt := 79) hx hb dX1_squareKind_75 (by decide) ?_
        subst hQe
        refine vx_ret ?_
        refine W.widen (k := 10) (n := 120) (by first | decide | omega) (by first | decide | omega) ?_
        exact W.iret (v := nI 2) hx hb hr (fun tz ht hW => ⟨⟨_, (), rfl, (sqk_2 h7ja e_3 hsc c_56 c_71), B1_at ht (hP.sub [] rfl) (hD.sub [] (by decide) rfl) trivial⟩, hS.F ht⟩) hS.2.2 dX1_squareKind_79
    · have c_56 : ¬ (M_3 1) ≤ 0 := fun h => c_56 ((lg_cmp_le _ _).mpr h)
      refine lv_iconst (v := nI 1) hx hb dX1_squareKind_59 (by decide) ?_
      refine lv_goto (tgt := 79) hx hb dX1_squareKind_60 (by decide) ?_
      subst hQe
      refine vx_ret ?_
      refine W.widen (k := 10) (n := 120) (by first | decide | omega) (by first | decide | omega) ?_
      exact W.iret (v := nI 1) hx hb hr (fun tz ht hW => ⟨⟨_, (), rfl, (sqk_1 h7ja e_3 hsc c_56), B1_at ht (hP.sub [] rfl) (hD.sub [] (by decide) rfl) trivial⟩, hS.F ht⟩) hS.2.2 dX1_squareKind_79
  · have hsc := of_decide_eq_false (bI_0 c_43)
    refine lv_iconst (v := nI 0) hx hb dX1_squareKind_46 (by decide) ?_
    subst hQe
    refine vx_ret ?_
    refine W.widen (k := 10) (n := 120) (by first | decide | omega) (by first | decide | omega) ?_
    exact W.iret (v := nI 0) hx hb hr (fun tz ht hW => ⟨⟨_, (), rfl, (sqk_0 h7ja e_3 hsc), B1_at ht (hP.sub [] rfl) (hD.sub [] (by decide) rfl) trivial⟩, hS.F ht⟩) hS.2.2 dX1_squareKind_47
