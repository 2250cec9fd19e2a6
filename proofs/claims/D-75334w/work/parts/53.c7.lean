/-! numbers in their common form, over a denominator of any sign -/
def fitG (u : Int64) (f : Nat → Int64) : Option MV := fitS (u * sgL u) (fun j => f j * sgL u)
theorem sgL_c (u : Int64) : sgL u = 1 ∨ sgL u = -1 := by
  unfold sgL
  by_cases h : u < 0
  · exact Or.inr (if_pos h)
  · exact Or.inl (if_neg h)
theorem mul_n1 (x : Int64) : x * (-1) = -x := by
  rw [show (-1 : Int64) = -(1 : Int64) from rfl, Int64.mul_neg, Int64.mul_one]
theorem neg_t {x : Int64} (h : x ≠ Int64.minValue) : (-x).toInt = -x.toInt := by
  have h1 := Int64.le_toInt x
  have h2 := Int64.toInt_lt x
  have h3 : x.toInt ≠ -9223372036854775808 := fun c => h (Int64.toInt_inj.mp (c.trans (by decide)))
  rw [Int64.toInt_neg, bm64 (by omega)]
theorem neg_nm9 {x : Int64} (h : x ≠ Int64.minValue) : -x ≠ Int64.minValue := by
  intro c
  have h1 := neg_t h
  rw [c] at h1
  have h2 := Int64.toInt_lt x
  have h3 : Int64.minValue.toInt = -9223372036854775808 := by decide
  omega
theorem aN_neg {x : Int64} (h : x ≠ Int64.minValue) : aN (-x) = aN x := by
  unfold aN; rw [neg_t h, Int.natAbs_neg]
theorem aN_sg {x u : Int64} (h : x ≠ Int64.minValue) : aN (x * sgL u) = aN x := by
  rcases sgL_c u with e | e <;> rw [e]
  · rw [Int64.mul_one]
  · rw [mul_n1, aN_neg h]
theorem gA_sg {u : Int64} {f : Nat → Int64} (hum : u ≠ Int64.minValue) : ∀ n, (∀ j, j < n → f j ≠ Int64.minValue) → gA (u * sgL u) (fun j => f j * sgL u) n = gA u f n
  | 0, _ => aN_sg hum
  | n + 1, h => by
    show Nat.gcd (gA (u * sgL u) (fun j => f j * sgL u) n) (aN (f n * sgL u)) = Nat.gcd (gA u f n) (aN (f n))
    rw [gA_sg hum n (fun j hj => h j (by omega)), aN_sg (h n (by omega))]
theorem gcd_b {u : Int64} {f : Nat → Int64} {b : Int64} {k : Nat} (h : aN b = gA u f k) : gcdL b (f k) = lN (gA u f (k + 1)) := by
  unfold gcdL; rw [h]; rfl
theorem gs_ep {g : Nat} {u : Int64} (h : sgL u = 1) : lN g = lN g * sgL u := by rw [h, Int64.mul_one]
theorem gs_en {g : Nat} {u : Int64} (h : sgL u = -1) : -(lN g) = lN g * sgL u := by rw [h, mul_n1]
theorem lN_t {g : Nat} (h : g < 2 ^ 63) : (lN g).toInt = (g : Int) := pk_lT h
theorem neg_lN {g : Nat} (h : g < 2 ^ 63) : (-(lN g)).toInt = -(g : Int) := by
  rw [neg_t (lN_min h), lN_t h]
theorem gs_nz {g : Nat} {u : Int64} (h0 : 0 < g) (h : g < 2 ^ 63) : ¬ lN g * sgL u = 0 := by
  intro c
  rcases sgL_c u with e | e <;> rw [e] at c
  · rw [Int64.mul_one] at c
    have := congrArg Int64.toInt c
    rw [lN_t h] at this
    have h9 : (0 : Int64).toInt = 0 := rfl
    rw [h9] at this; omega
  · rw [mul_n1] at c
    have := congrArg Int64.toInt c
    rw [neg_lN h] at this
    have h9 : (0 : Int64).toInt = 0 := rfl
    rw [h9] at this; omega
/-- by a divisor with the sign: as the value with the sign, by the divisor -/
theorem dv_sg {x u : Int64} {g : Nat} (h0 : 0 < g) (h : g < 2 ^ 63) (hx : x ≠ Int64.minValue) : x / (lN g * sgL u) = x * sgL u / lN g := by
  rcases sgL_c u with e | e <;> rw [e]
  · rw [Int64.mul_one, Int64.mul_one]
  · rw [mul_n1, mul_n1]
    apply Int64.toInt_inj.mp
    have hm : -(lN g) ≠ -1 ∨ x ≠ Int64.minValue := Or.inr hx
    rw [Int64.toInt_div_of_ne_left _ _ hx, Int64.toInt_div_of_ne_left _ _ (neg_nm9 hx), neg_lN h, lN_t h, neg_t hx, Int.tdiv_neg, Int.neg_tdiv]
theorem dv_nm {x u : Int64} {g : Nat} (h0 : 0 < g) (h : g < 2 ^ 63) (hx : x ≠ Int64.minValue) : x * sgL u / lN g ≠ Int64.minValue := by
  have hx2 : x * sgL u ≠ Int64.minValue := by
    intro c
    have h1 := aN_sg (u := u) hx
    rw [c] at h1
    have := aN_lt hx
    rw [← h1] at this
    exact absurd this (by decide)
  have := div_small (B := 9223372036854775807) (x := x * sgL u) (by
    have := aN_lt hx2
    unfold aN at this
    omega) (by decide) h0 h
  exact ne_min_of this (by decide)
def dvG (f : Nat → Int64) (u g : Int64) (k : Nat) : Nat → Int64 := fun j => if j < k then f j * sgL u / g else f j
theorem dvG_0 (f : Nat → Int64) (u g : Int64) : dvG f u g 0 = f := by funext j; unfold dvG; rw [if_neg (by omega)]
theorem dvG_at {f : Nat → Int64} {u g : Int64} {k : Nat} : dvG f u g (k + 1) k = f k * sgL u / g := if_pos (by omega)
theorem dvG_s {f : Nat → Int64} {u : Int64} {g k : Nat} (h0 : 0 < g) (h : g < 2 ^ 63) (hx : f k ≠ Int64.minValue) : vp_updL (dvG f u (lN g) k) k (dvG f u (lN g) k k / (lN g * sgL u)) = dvG f u (lN g) (k + 1) := by
  funext j
  by_cases e : j = k
  · subst e; rw [pk_uLs]; unfold dvG; rw [if_neg (by omega), if_pos (by omega), dv_sg h0 h hx]
  · rw [pk_uLn e]; unfold dvG
    by_cases h : j < k
    · rw [if_pos h, if_pos (by omega)]
    · rw [if_neg h, if_neg (by omega)]
theorem abs_sm {x : Int64} (hx : x ≠ Int64.minValue) (h : absL x ≤ 100000000) : smallB x = true := by
  have h1 := Int64.le_iff_toInt_le.mp h
  have h2 : (absL x).toInt = (aN x : Int) := by rw [absL_lN hx, lN_t (aN_lt hx)]
  have h3 : (100000000 : Int64).toInt = 100000000 := rfl
  rw [h2, h3] at h1
  exact smallB_iff.mpr (by unfold aN at h1; omega)
theorem abs_ns {x : Int64} (h : ¬ absL x ≤ 100000000) : smallB x = false := by
  rw [Bool.eq_false_iff]
  intro c
  have hs := smallB_iff.mp c
  have hx : x ≠ Int64.minValue := ne_min_of hs (by decide)
  apply h
  apply Int64.le_iff_toInt_le.mpr
  have h2 : (absL x).toInt = (aN x : Int) := by rw [absL_lN hx, lN_t (aN_lt hx)]
  have h3 : (100000000 : Int64).toInt = 100000000 := rfl
  rw [h2, h3]; unfold aN; omega
theorem fitG_red {u : Int64} {f : Nat → Int64} (hum : u ≠ Int64.minValue) (hfm : ∀ j, j < 32 → f j ≠ Int64.minValue) : gA (u * sgL u) (fun j => f j * sgL u) 32 = gA u f 32 := gA_sg hum 32 hfm
theorem uSg {u : Int64} (hum : u ≠ Int64.minValue) : (u * sgL u).toInt = (aN u : Int) := by
  unfold sgL aN
  by_cases h : u < 0
  · rw [if_pos h, mul_n1, neg_t hum]
    have := Int64.lt_iff_toInt_lt.mp h
    have h9 : (0 : Int64).toInt = 0 := rfl
    rw [h9] at this; omega
  · rw [if_neg h, Int64.mul_one]
    have := Int64.le_iff_toInt_le.mp (Int64.not_lt.mp h)
    have h9 : (0 : Int64).toInt = 0 := rfl
    rw [h9] at this; omega
theorem red_0 {u : Int64} {f : Nat → Int64} (hum : u ≠ Int64.minValue) (hfm : ∀ j, j < 32 → f j ≠ Int64.minValue) : u * sgL u / lN (gA u f 32) = redS (u * sgL u) (fun j => f j * sgL u) 0 := by
  unfold redS; rw [if_pos rfl, fitG_red hum hfm]
theorem dvG_red {u : Int64} {f : Nat → Int64} (hum : u ≠ Int64.minValue) (hfm : ∀ j, j < 32 → f j ≠ Int64.minValue) {j : Nat} (hj : j < 32) : dvG f u (lN (gA u f 32)) 32 j = redS (u * sgL u) (fun j => f j * sgL u) (j + 1) := by
  unfold dvG redS
  rw [if_pos hj, if_neg (by omega), fitG_red hum hfm]; rfl
theorem fitG_c {u : Int64} {f : Nat → Int64} (hum : u ≠ Int64.minValue) (hfm : ∀ j, j < 32 → f j ≠ Int64.minValue) {j : Nat} (hj : j < 32) (hs : smallB (f j * sgL u / lN (gA u f 32)) = false) : fitG u f = none := by
  unfold fitG
  apply fitS_f
  rw [Bool.eq_false_iff]; intro c
  unfold fitB at c
  rw [fitG_red hum hfm] at c
  have := (pfB_get c).2 j hj
  rw [hs] at this; cases this
theorem fitG_u {u : Int64} {f : Nat → Int64} (hum : u ≠ Int64.minValue) (hfm : ∀ j, j < 32 → f j ≠ Int64.minValue) (hs : ¬ u * sgL u / lN (gA u f 32) ≤ 100000000) : fitG u f = none := by
  unfold fitG
  apply fitS_f
  rw [Bool.eq_false_iff]; intro c
  unfold fitB at c
  rw [fitG_red hum hfm] at c
  have := (pfB_get c).1
  unfold smallB at this
  rw [Bool.and_eq_true] at this
  exact hs (of_decide_eq_true this.2)
theorem fitG_s {u : Int64} {f : Nat → Int64} (hu : 0 < aN u) (hum : u ≠ Int64.minValue) (hfm : ∀ j, j < 32 → f j ≠ Int64.minValue) (h1 : u * sgL u / lN (gA u f 32) ≤ 100000000) (h2 : ∀ j, j < 32 → smallB (f j * sgL u / lN (gA u f 32)) = true) : fitG u f = some (redS (u * sgL u) (fun j => f j * sgL u)) := by
  unfold fitG
  apply fitS_t
  unfold fitB
  rw [fitG_red hum hfm]
  refine pfB_all ?_ 32 h2
  have hp : 0 < (u * sgL u).toInt := by rw [uSg hum]; omega
  have hd := div_pos' hp (g := gA u f 32) (by rw [← aN_sg (u := u) hum] at *; exact (aN_sg (u := u) hum).symm ▸ gA_dvd u f 32) (gA_pos hu f 32)
  have h3 := Int64.le_iff_toInt_le.mp h1
  have h9 : (100000000 : Int64).toInt = 100000000 := rfl
  rw [h9] at h3
  exact smallB_iff.mpr (by omega)
theorem fitG_sm {u : Int64} {f : Nat → Int64} {M : MV} (hu : 0 < aN u) (hum : u ≠ Int64.minValue) (e : fitG u f = some M) : MSm M := fitS_sm (by rw [uSg hum]; omega) e
theorem fitG_pos {u : Int64} {f : Nat → Int64} (h : 0 < u.toInt) : fitG u f = fitS u f := by
  have e : sgL u = 1 := if_neg (fun c => by
    have := Int64.lt_iff_toInt_lt.mp c
    have h9 : (0 : Int64).toInt = 0 := rfl
    rw [h9] at this; omega)
  unfold fitG
  rw [e, Int64.mul_one]
  congr 1; funext j; exact Int64.mul_one _
set_option maxHeartbeats 4000000 in
theorem xj4_8n {l : Launch} {dC : Nat → ClassId} {dI : Nat → Nat → Nat} {dA : Nat → ClassId} {s0 : State} {b0 : Addr} (Z : Z0 l dC dI dA s0 b0) (A : Nat → Prop) (sz : Nat) (hA : ∀ q : Nat, sz ≤ q → A q) {σ : Nat → Nat} (Y : SS (dC, dI) dA σ s0) (ea sa : Nat) : Met l yJ4_init_3 (ws_ yJ4_init_3 cJ4_init_3 5 none) ({ frames := 2, cells := 0, slots := 0, locals := 120 } : Room) (gP [.ref ea, .ref sa, .null, .int (nI 0), .int (nI 0)] s0 A (fun H => H.size = sz ∧ va_P (dC, dI) vwCl [(ea, .inr (7, [.null, .null, .null, .null, .null, .int 0]))] H ∧ va_D A [(ea, .inr (7, [.null, .null, .null, .null, .null, .int 0]))])) (va_Qv (S := Unit) (fun _ => True) (B1 (dC, dI) A (fun _ => [(ea, .inr (7, [.null, .null, .null, .ref sa, .null, .int 0]))]) (fun _ _ => True)) A) 0 0 A := by
  refine Met.ofW (cc := cJ4_init_3) (maxL := 5) (ret := none) (by decide) rfl ?_
  intro p e s m args below meth c s₁ B hml hv
  obtain ⟨hav, hG, hsz, hP, hD⟩ := hv
  have hx := B.exec
  have hb := B.bytes
  have hr := B.returns
  have hts := atoms_spec (ws := (ws_ yJ4_init_3 cJ4_init_3 5 none)) B.pre
  have hts : ∀ w ∈ lw_all, w.before _ s = true := fun w h => hts w (List.mem_cons_of_mem _ h)
  have hown : s.vm.findClass RJ4 = some m.cls := findClass_of_methodNamed B.named
  have hlocks := B.notSynchronized
  have hK := hG.K Z
  have hin : meth.name = "<init>" := (name_of_methodNamed B.named B.method).1
  subst hsz
  have hS : va_S A s.heap s.heap [] := va_S.rf
  have hl := lv_entry ([.ref ea, .ref sa, .null, .int (nI 0), .int (nI 0)]) (n := 5) (Nat.le_of_ble_eq_true rfl)
  rw [show entryFrame m args 5 = entryFrame m ([.ref ea, .ref sa, .null, .int (nI 0), .int (nI 0)] : List Value).toArray 5 from by rw [hav], lg_entry_eq]
  generalize (lg_sl ([.ref ea, .ref sa, .null, .int (nI 0), .int (nI 0)]) ++ List.replicate (5 - (lg_sl ([.ref ea, .ref sa, .null, .int (nI 0), .int (nI 0)])).length) Slot.unset).toArray = ls at hl ⊢
  have hl : lv_has ls 5 [(0, .ref ea), (1, .ref sa), (2, .null), (3, .int (nI 0)), (4, .int (nI 0))] := hl
  generalize hQe : MQ below _ _ s _ _ _ = Q
  change W p l e ({ frames := 2, cells := 0, slots := 0, locals := 120 } : Room) s m args below meth c s.heap [] 0 0 Q (F0 m 0 ls [])
  refine lv_aload_n hx hb dJ4_init_3_0 rfl (lv_at hl 0 rfl) ?_
  refine W.objInit hx hb hown (hts _ q363) (hts _ q151) (hts _ q152) rfl (by rw [hml]; exact hl.1) rfl dJ4_init_3_1 (Nat.le_of_ble_eq_true rfl) (Nat.le_of_ble_eq_true rfl) ?_
  show W p l e ({ frames := 2, cells := 0, slots := 0, locals := 120 } : Room) s m args below meth c s.heap [] 0 0 Q (F0 m 4 ls [])
  refine lv_aload_n hx hb dJ4_init_3_4 rfl (lv_at hl 0 rfl) ?_
  refine lv_aload_n hx hb dJ4_init_3_5 rfl (lv_at hl 0 rfl) ?_
  refine va_put (D := (dC, dI)) (ci := 7) (v := .ref ea) (ty := (tyX8 0)) (C := RX8) (T := TX8) (N := 6) hx hb hts in_X8 tyX8 tyX8_ok nmX8 hown hK hP hD hS 0 rfl rfl 0 (by decide) (hts _ q401) (fun _ h9 => h9) rfl (by decide +kernel) rfl rfl (Nat.le_of_ble_eq_true rfl) dJ4_init_3_6 (fun H locs hP hD hS => ?_)
  have hP : va_P (dC, dI) vwCl [(ea, .inr (7, [.ref ea, .null, .null, .null, .null, .int 0]))] H := hP
  have hD : va_D A [(ea, .inr (7, [.ref ea, .null, .null, .null, .null, .int 0]))] := hD
  refine lv_aload_n hx hb dJ4_init_3_9 rfl (lv_at hl 0 rfl) ?_
  rcases (hG.Zq (SS.st Y).1).1 with z9 | ⟨t9, z9⟩
  · refine va_gets (v := .null) hx hb z9 hS hown (hts _ q364) (fun _ h9 => h9) dJ4_init_3_10 ?_
    refine va_put (D := (dC, dI)) (ci := 7) (v := .null) (ty := (tyX8 1)) (C := RX8) (T := TX8) (N := 6) hx hb hts in_X8 tyX8 tyX8_ok nmX8 hown hK hP hD hS 0 rfl rfl 1 (by decide) (hts _ q402) (fun _ h9 => h9) rfl (by decide +kernel) rfl rfl (Nat.le_of_ble_eq_true rfl) dJ4_init_3_13 (fun H locs hP hD hS => ?_)
    have hP : va_P (dC, dI) vwCl [(ea, .inr (7, [.ref ea, .null, .null, .null, .null, .int 0]))] H := hP
    have hD : va_D A [(ea, .inr (7, [.ref ea, .null, .null, .null, .null, .int 0]))] := hD
    refine lv_aload_n hx hb dJ4_init_3_16 rfl (lv_at hl 0 rfl) ?_
    rcases (hG.Zq (SS.st Y).2).1 with y9 | ⟨u9, y9⟩
    · refine va_gets (v := .null) hx hb y9 hS hown (hts _ q366) (fun _ h9 => h9) dJ4_init_3_17 ?_
      refine va_put (D := (dC, dI)) (ci := 7) (v := .null) (ty := (tyX8 2)) (C := RX8) (T := TX8) (N := 6) hx hb hts in_X8 tyX8 tyX8_ok nmX8 hown hK hP hD hS 0 rfl rfl 2 (by decide) (hts _ q403) (fun _ h9 => h9) rfl (by decide +kernel) rfl rfl (Nat.le_of_ble_eq_true rfl) dJ4_init_3_20 (fun H locs hP hD hS => ?_)
      have hP : va_P (dC, dI) vwCl [(ea, .inr (7, [.ref ea, .null, .null, .null, .null, .int 0]))] H := hP
      have hD : va_D A [(ea, .inr (7, [.ref ea, .null, .null, .null, .null, .int 0]))] := hD
      refine lv_iload hx hb dJ4_init_3_23 (lv_at hl 4 rfl) ?_
      refine lv_if_eq (tgt := 36) hx hb dJ4_init_3_25 (by decide) (fun c_25 => ?_) (fun c_25 => ?_)
      rotate_left
      · exact absurd (by decide) c_25
      refine lv_aload_n hx hb dJ4_init_3_36 rfl (lv_at hl 0 rfl) ?_
      refine lv_null hx hb dJ4_init_3_37 ?_
      refine va_put (D := (dC, dI)) (ci := 7) (v := .null) (ty := (tyX8 1)) (C := RX8) (T := TX8) (N := 6) hx hb hts in_X8 tyX8 tyX8_ok nmX8 hown hK hP hD hS 0 rfl rfl 1 (by decide) (hts _ q402) (fun _ h9 => h9) rfl (by decide +kernel) rfl rfl (Nat.le_of_ble_eq_true rfl) dJ4_init_3_38 (fun H locs hP hD hS => ?_)
      have hP : va_P (dC, dI) vwCl [(ea, .inr (7, [.ref ea, .null, .null, .null, .null, .int 0]))] H := hP
      have hD : va_D A [(ea, .inr (7, [.ref ea, .null, .null, .null, .null, .int 0]))] := hD
      refine lv_aload_n hx hb dJ4_init_3_41 rfl (lv_at hl 0 rfl) ?_
      refine lv_aload_n hx hb dJ4_init_3_42 rfl (lv_at hl 1 rfl) ?_
      refine va_put (D := (dC, dI)) (ci := 7) (v := .ref sa) (ty := (tyX8 3)) (C := RX8) (T := TX8) (N := 6) hx hb hts in_X8 tyX8 tyX8_ok nmX8 hown hK hP hD hS 0 rfl rfl 3 (by decide) (hts _ q400) (fun _ h9 => h9) rfl (by decide +kernel) rfl rfl (Nat.le_of_ble_eq_true rfl) dJ4_init_3_43 (fun H locs hP hD hS => ?_)
      have hP : va_P (dC, dI) vwCl [(ea, .inr (7, [.ref ea, .null, .null, .ref sa, .null, .int 0]))] H := hP
      have hD : va_D A [(ea, .inr (7, [.ref ea, .null, .null, .ref sa, .null, .int 0]))] := hD
      refine lv_aload_n hx hb dJ4_init_3_46 rfl (lv_at hl 0 rfl) ?_
      refine lv_aload_nN hx hb dJ4_init_3_47 rfl (lv_at hl 2 rfl) ?_
      refine va_put (D := (dC, dI)) (ci := 7) (v := .null) (ty := (tyX8 0)) (C := RX8) (T := TX8) (N := 6) hx hb hts in_X8 tyX8 tyX8_ok nmX8 hown hK hP hD hS 0 rfl rfl 0 (by decide) (hts _ q401) (fun _ h9 => h9) rfl (by decide +kernel) rfl rfl (Nat.le_of_ble_eq_true rfl) dJ4_init_3_48 (fun H locs hP hD hS => ?_)
      have hP : va_P (dC, dI) vwCl [(ea, .inr (7, [.null, .null, .null, .ref sa, .null, .int 0]))] H := hP
      have hD : va_D A [(ea, .inr (7, [.null, .null, .null, .ref sa, .null, .int 0]))] := hD
      refine lv_iload_n hx hb dJ4_init_3_51 rfl (lv_at hl 3 rfl) ?_
      refine lv_if_ne (tgt := 60) hx hb dJ4_init_3_52 (by decide) (fun c_52 => ?_) (fun c_52 => ?_)
      · exact absurd (by decide) c_52
      refine lv_aload_n hx hb dJ4_init_3_55 rfl (lv_at hl 0 rfl) ?_
      refine lv_null hx hb dJ4_init_3_56 ?_
      refine va_put (D := (dC, dI)) (ci := 7) (v := .null) (ty := (tyX8 2)) (C := RX8) (T := TX8) (N := 6) hx hb hts in_X8 tyX8 tyX8_ok nmX8 hown hK hP hD hS 0 rfl rfl 2 (by decide) (hts _ q403) (fun _ h9 => h9) rfl (by decide +kernel) rfl rfl (Nat.le_of_ble_eq_true rfl) dJ4_init_3_57 (fun H locs hP hD hS => ?_)
      have hP : va_P (dC, dI) vwCl [(ea, .inr (7, [.null, .null, .null, .ref sa, .null, .int 0]))] H := hP
      have hD : va_D A [(ea, .inr (7, [.null, .null, .null, .ref sa, .null, .int 0]))] := hD
      subst hQe
      exact W.vret hx hb hr (fun tz ht hW => ⟨⟨(), rfl, trivial, B1_at ht (hP.sub [0] rfl) (hD.sub [0] (by decide) rfl) trivial⟩, hS.F ht⟩) hS.2.2 dJ4_init_3_60
    · refine va_gets (v := .ref u9) hx hb y9 hS hown (hts _ q366) (fun _ h9 => h9) dJ4_init_3_17 ?_
      refine va_put (D := (dC, dI)) (ci := 7) (v := .ref u9) (ty := (tyX8 2)) (C := RX8) (T := TX8) (N := 6) hx hb hts in_X8 tyX8 tyX8_ok nmX8 hown hK hP hD hS 0 rfl rfl 2 (by decide) (hts _ q403) (fun _ h9 => h9) rfl (by decide +kernel) rfl rfl (Nat.le_of_ble_eq_true rfl) dJ4_init_3_20 (fun H locs hP hD hS => ?_)
      have hP : va_P (dC, dI) vwCl [(ea, .inr (7, [.ref ea, .null, .ref u9, .null, .null, .int 0]))] H := hP
      have hD : va_D A [(ea, .inr (7, [.ref ea, .null, .ref u9, .null, .null, .int 0]))] := hD
      refine lv_iload hx hb dJ4_init_3_23 (lv_at hl 4 rfl) ?_
      refine lv_if_eq (tgt := 36) hx hb dJ4_init_3_25 (by decide) (fun c_25 => ?_) (fun c_25 => ?_)
      rotate_left
      · exact absurd (by decide) c_25
      refine lv_aload_n hx hb dJ4_init_3_36 rfl (lv_at hl 0 rfl) ?_
      refine lv_null hx hb dJ4_init_3_37 ?_
      refine va_put (D := (dC, dI)) (ci := 7) (v := .null) (ty := (tyX8 1)) (C := RX8) (T := TX8) (N := 6) hx hb hts in_X8 tyX8 tyX8_ok nmX8 hown hK hP hD hS 0 rfl rfl 1 (by decide) (hts _ q402) (fun _ h9 => h9) rfl (by decide +kernel) rfl rfl (Nat.le_of_ble_eq_true rfl) dJ4_init_3_38 (fun H locs hP hD hS => ?_)
      have hP : va_P (dC, dI) vwCl [(ea, .inr (7, [.ref ea, .null, .ref u9, .null, .null, .int 0]))] H := hP
      have hD : va_D A [(ea, .inr (7, [.ref ea, .null, .ref u9, .null, .null, .int 0]))] := hD
      refine lv_aload_n hx hb dJ4_init_3_41 rfl (lv_at hl 0 rfl) ?_
      refine lv_aload_n hx hb dJ4_init_3_42 rfl (lv_at hl 1 rfl) ?_
      refine va_put (D := (dC, dI)) (ci := 7) (v := .ref sa) (ty := (tyX8 3)) (C := RX8) (T := TX8) (N := 6) hx hb hts in_X8 tyX8 tyX8_ok nmX8 hown hK hP hD hS 0 rfl rfl 3 (by decide) (hts _ q400) (fun _ h9 => h9) rfl (by decide +kernel) rfl rfl (Nat.le_of_ble_eq_true rfl) dJ4_init_3_43 (fun H locs hP hD hS => ?_)
      have hP : va_P (dC, dI) vwCl [(ea, .inr (7, [.ref ea, .null, .ref u9, .ref sa, .null, .int 0]))] H := hP
      have hD : va_D A [(ea, .inr (7, [.ref ea, .null, .ref u9, .ref sa, .null, .int 0]))] := hD
      refine lv_aload_n hx hb dJ4_init_3_46 rfl (lv_at hl 0 rfl) ?_
      refine lv_aload_nN hx hb dJ4_init_3_47 rfl (lv_at hl 2 rfl) ?_
      refine va_put (D := (dC, dI)) (ci := 7) (v := .null) (ty := (tyX8 0)) (C := RX8) (T := TX8) (N := 6) hx hb hts in_X8 tyX8 tyX8_ok nmX8 hown hK hP hD hS 0 rfl rfl 0 (by decide) (hts _ q401) (fun _ h9 => h9) rfl (by decide +kernel) rfl rfl (Nat.le_of_ble_eq_true rfl) dJ4_init_3_48 (fun H locs hP hD hS => ?_)
      have hP : va_P (dC, dI) vwCl [(ea, .inr (7, [.null, .null, .ref u9, .ref sa, .null, .int 0]))] H := hP
      have hD : va_D A [(ea, .inr (7, [.null, .null, .ref u9, .ref sa, .null, .int 0]))] := hD
      refine lv_iload_n hx hb dJ4_init_3_51 rfl (lv_at hl 3 rfl) ?_
      refine lv_if_ne (tgt := 60) hx hb dJ4_init_3_52 (by decide) (fun c_52 => ?_) (fun c_52 => ?_)
      · exact absurd (by decide) c_52
      refine lv_aload_n hx hb dJ4_init_3_55 rfl (lv_at hl 0 rfl) ?_
      refine lv_null hx hb dJ4_init_3_56 ?_
      refine va_put (D := (dC, dI)) (ci := 7) (v := .null) (ty := (tyX8 2)) (C := RX8) (T := TX8) (N := 6) hx hb hts in_X8 tyX8 tyX8_ok nmX8 hown hK hP hD hS 0 rfl rfl 2 (by decide) (hts _ q403) (fun _ h9 => h9) rfl (by decide +kernel) rfl rfl (Nat.le_of_ble_eq_true rfl) dJ4_init_3_57 (fun H locs hP hD hS => ?_)
      have hP : va_P (dC, dI) vwCl [(ea, .inr (7, [.null, .null, .null, .ref sa, .null, .int 0]))] H := hP
      have hD : va_D A [(ea, .inr (7, [.null, .null, .null, .ref sa, .null, .int 0]))] := hD
      subst hQe
      exact W.vret hx hb hr (fun tz ht hW => ⟨⟨(), rfl, trivial, B1_at ht (hP.sub [0] rfl) (hD.sub [0] (by decide) rfl) trivial⟩, hS.F ht⟩) hS.2.2 dJ4_init_3_60
  · refine va_gets (v := .ref t9) hx hb z9 hS hown (hts _ q364) (fun _ h9 => h9) dJ4_init_3_10 ?_
    refine va_put (D := (dC, dI)) (ci := 7) (v := .ref t9) (ty := (tyX8 1)) (C := RX8) (T := TX8) (N := 6) hx hb hts in_X8 tyX8 tyX8_ok nmX8 hown hK hP hD hS 0 rfl rfl 1 (by decide) (hts _ q402) (fun _ h9 => h9) rfl (by decide +kernel) rfl rfl (Nat.le_of_ble_eq_true rfl) dJ4_init_3_13 (fun H locs hP hD hS => ?_)
    have hP : va_P (dC, dI) vwCl [(ea, .inr (7, [.ref ea, .ref t9, .null, .null, .null, .int 0]))] H := hP
    have hD : va_D A [(ea, .inr (7, [.ref ea, .ref t9, .null, .null, .null, .int 0]))] := hD
    refine lv_aload_n hx hb dJ4_init_3_16 rfl (lv_at hl 0 rfl) ?_
    rcases (hG.Zq (SS.st Y).2).1 with y9 | ⟨u9, y9⟩
    · refine va_gets (v := .null) hx hb y9 hS hown (hts _ q366) (fun _ h9 => h9) dJ4_init_3_17 ?_
      refine va_put (D := (dC, dI)) (ci := 7) (v := .null) (ty := (tyX8 2)) (C := RX8) (T := TX8) (N := 6) hx hb hts in_X8 tyX8 tyX8_ok nmX8 hown hK hP hD hS 0 rfl rfl 2 (by decide) (hts _ q403) (fun _ h9 => h9) rfl (by decide +kernel) rfl rfl (Nat.le_of_ble_eq_true rfl) dJ4_init_3_20 (fun H locs hP hD hS => ?_)
      have hP : va_P (dC, dI) vwCl [(ea, .inr (7, [.ref ea, .ref t9, .null, .null, .null, .int 0]))] H := hP
      have hD : va_D A [(ea, .inr (7, [.ref ea, .ref t9, .null, .null, .null, .int 0]))] := hD
      refine lv_iload hx hb dJ4_init_3_23 (lv_at hl 4 rfl) ?_
      refine lv_if_eq (tgt := 36) hx hb dJ4_init_3_25 (by decide) (fun c_25 => ?_) (fun c_25 => ?_)
      rotate_left
      · exact absurd (by decide) c_25
      refine lv_aload_n hx hb dJ4_init_3_36 rfl (lv_at hl 0 rfl) ?_
      refine lv_null hx hb dJ4_init_3_37 ?_
      refine va_put (D := (dC, dI)) (ci := 7) (v := .null) (ty := (tyX8 1)) (C := RX8) (T := TX8) (N := 6) hx hb hts in_X8 tyX8 tyX8_ok nmX8 hown hK hP hD hS 0 rfl rfl 1 (by decide) (hts _ q402) (fun _ h9 => h9) rfl (by decide +kernel) rfl rfl (Nat.le_of_ble_eq_true rfl) dJ4_init_3_38 (fun H locs hP hD hS => ?_)
      have hP : va_P (dC, dI) vwCl [(ea, .inr (7, [.ref ea, .null, .null, .null, .null, .int 0]))] H := hP
      have hD : va_D A [(ea, .inr (7, [.ref ea, .null, .null, .null, .null, .int 0]))] := hD
      refine lv_aload_n hx hb dJ4_init_3_41 rfl (lv_at hl 0 rfl) ?_
      refine lv_aload_n hx hb dJ4_init_3_42 rfl (lv_at hl 1 rfl) ?_
      refine va_put (D := (dC, dI)) (ci := 7) (v := .ref sa) (ty := (tyX8 3)) (C := RX8) (T := TX8) (N := 6) hx hb hts in_X8 tyX8 tyX8_ok nmX8 hown hK hP hD hS 0 rfl rfl 3 (by decide) (hts _ q400) (fun _ h9 => h9) rfl (by decide +kernel) rfl rfl (Nat.le_of_ble_eq_true rfl) dJ4_init_3_43 (fun H locs hP hD hS => ?_)
      have hP : va_P (dC, dI) vwCl [(ea, .inr (7, [.ref ea, .null, .null, .ref sa, .null, .int 0]))] H := hP
      have hD : va_D A [(ea, .inr (7, [.ref ea, .null, .null, .ref sa, .null, .int 0]))] := hD
      refine lv_aload_n hx hb dJ4_init_3_46 rfl (lv_at hl 0 rfl) ?_
      refine lv_aload_nN hx hb dJ4_init_3_47 rfl (lv_at hl 2 rfl) ?_
      refine va_put (D := (dC, dI)) (ci := 7) (v := .null) (ty := (tyX8 0)) (C := RX8) (T := TX8) (N := 6) hx hb hts in_X8 tyX8 tyX8_ok nmX8 hown hK hP hD hS 0 rfl rfl 0 (by decide) (hts _ q401) (fun _ h9 => h9) rfl (by decide +kernel) rfl rfl (Nat.le_of_ble_eq_true rfl) dJ4_init_3_48 (fun H locs hP hD hS => ?_)
      have hP : va_P (dC, dI) vwCl [(ea, .inr (7, [.null, .null, .null, .ref sa, .null, .int 0]))] H := hP
      have hD : va_D A [(ea, .inr (7, [.null, .null, .null, .ref sa, .null, .int 0]))] := hD
      refine lv_iload_n hx hb dJ4_init_3_51 rfl (lv_at hl 3 rfl) ?_
      refine lv_if_ne (tgt := 60) hx hb dJ4_init_3_52 (by decide) (fun c_52 => ?_) (fun c_52 => ?_)
      · exact absurd (by decide) c_52
      refine lv_aload_n hx hb dJ4_init_3_55 rfl (lv_at hl 0 rfl) ?_
      refine lv_null hx hb dJ4_init_3_56 ?_
      refine va_put (D := (dC, dI)) (ci := 7) (v := .null) (ty := (tyX8 2)) (C := RX8) (T := TX8) (N := 6) hx hb hts in_X8 tyX8 tyX8_ok nmX8 hown hK hP hD hS 0 rfl rfl 2 (by decide) (hts _ q403) (fun _ h9 => h9) rfl (by decide +kernel) rfl rfl (Nat.le_of_ble_eq_true rfl) dJ4_init_3_57 (fun H locs hP hD hS => ?_)
      have hP : va_P (dC, dI) vwCl [(ea, .inr (7, [.null, .null, .null, .ref sa, .null, .int 0]))] H := hP
      have hD : va_D A [(ea, .inr (7, [.null, .null, .null, .ref sa, .null, .int 0]))] := hD
      subst hQe
      exact W.vret hx hb hr (fun tz ht hW => ⟨⟨(), rfl, trivial, B1_at ht (hP.sub [0] rfl) (hD.sub [0] (by decide) rfl) trivial⟩, hS.F ht⟩) hS.2.2 dJ4_init_3_60
    · refine va_gets (v := .ref u9) hx hb y9 hS hown (hts _ q366) (fun _ h9 => h9) dJ4_init_3_17 ?_
      refine va_put (D := (dC, dI)) (ci := 7) (v := .ref u9) (ty := (tyX8 2)) (C := RX8) (T := TX8) (N := 6) hx hb hts in_X8 tyX8 tyX8_ok nmX8 hown hK hP hD hS 0 rfl rfl 2 (by decide) (hts _ q403) (fun _ h9 => h9) rfl (by decide +kernel) rfl rfl (Nat.le_of_ble_eq_true rfl) dJ4_init_3_20 (fun H locs hP hD hS => ?_)
      have hP : va_P (dC, dI) vwCl [(ea, .inr (7, [.ref ea, .ref t9, .ref u9, .null, .null, .int 0]))] H := hP
      have hD : va_D A [(ea, .inr (7, [.ref ea, .ref t9, .ref u9, .null, .null, .int 0]))] := hD
      refine lv_iload hx hb dJ4_init_3_23 (lv_at hl 4 rfl) ?_
      refine lv_if_eq (tgt := 36) hx hb dJ4_init_3_25 (by decide) (fun c_25 => ?_) (fun c_25 => ?_)
      rotate_left
      · exact absurd (by decide) c_25
      refine lv_aload_n hx hb dJ4_init_3_36 rfl (lv_at hl 0 rfl) ?_
      refine lv_null hx hb dJ4_init_3_37 ?_
      refine va_put (D := (dC, dI)) (ci := 7) (v := .null) (ty := (tyX8 1)) (C := RX8) (T := TX8) (N := 6) hx hb hts in_X8 tyX8 tyX8_ok nmX8 hown hK hP hD hS 0 rfl rfl 1 (by decide) (hts _ q402) (fun _ h9 => h9) rfl (by decide +kernel) rfl rfl (Nat.le_of_ble_eq_true rfl) dJ4_init_3_38 (fun H locs hP hD hS => ?_)
      have hP : va_P (dC, dI) vwCl [(ea, .inr (7, [.ref ea, .null, .ref u9, .null, .null, .int 0]))] H := hP
      have hD : va_D A [(ea, .inr (7, [.ref ea, .null, .ref u9, .null, .null, .int 0]))] := hD
      refine lv_aload_n hx hb dJ4_init_3_41 rfl (lv_at hl 0 rfl) ?_
      refine lv_aload_n hx hb dJ4_init_3_42 rfl (lv_at hl 1 rfl) ?_
      refine va_put (D := (dC, dI)) (ci := 7) (v := .ref sa) (ty := (tyX8 3)) (C := RX8) (T := TX8) (N := 6) hx hb hts in_X8 tyX8 tyX8_ok nmX8 hown hK hP hD hS 0 rfl rfl 3 (by decide) (hts _ q400) (fun _ h9 => h9) rfl (by decide +kernel) rfl rfl (Nat.le_of_ble_eq_true rfl) dJ4_init_3_43 (fun H locs hP hD hS => ?_)
      have hP : va_P (dC, dI) vwCl [(ea, .inr (7, [.ref ea, .null, .ref u9, .ref sa, .null, .int 0]))] H := hP
      have hD : va_D A [(ea, .inr (7, [.ref ea, .null, .ref u9, .ref sa, .null, .int 0]))] := hD
      refine lv_aload_n hx hb dJ4_init_3_46 rfl (lv_at hl 0 rfl) ?_
      refine lv_aload_nN hx hb dJ4_init_3_47 rfl (lv_at hl 2 rfl) ?_
      refine va_put (D := (dC, dI)) (ci := 7) (v := .null) (ty := (tyX8 0)) (C := RX8) (T := TX8) (N := 6) hx hb hts in_X8 tyX8 tyX8_ok nmX8 hown hK hP hD hS 0 rfl rfl 0 (by decide) (hts _ q401) (fun _ h9 => h9) rfl (by decide +kernel) rfl rfl (Nat.le_of_ble_eq_true rfl) dJ4_init_3_48 (fun H locs hP hD hS => ?_)
      have hP : va_P (dC, dI) vwCl [(ea, .inr (7, [.null, .null, .ref u9, .ref sa, .null, .int 0]))] H := hP
      have hD : va_D A [(ea, .inr (7, [.null, .null, .ref u9, .ref sa, .null, .int 0]))] := hD
      refine lv_iload_n hx hb dJ4_init_3_51 rfl (lv_at hl 3 rfl) ?_
      refine lv_if_ne (tgt := 60) hx hb dJ4_init_3_52 (by decide) (fun c_52 => ?_) (fun c_52 => ?_)
      · exact absurd (by decide) c_52
      refine lv_aload_n hx hb dJ4_init_3_55 rfl (lv_at hl 0 rfl) ?_
      refine lv_null hx hb dJ4_init_3_56 ?_
      refine va_put (D := (dC, dI)) (ci := 7) (v := .null) (ty := (tyX8 2)) (C := RX8) (T := TX8) (N := 6) hx hb hts in_X8 tyX8 tyX8_ok nmX8 hown hK hP hD hS 0 rfl rfl 2 (by decide) (hts _ q403) (fun _ h9 => h9) rfl (by decide +kernel) rfl rfl (Nat.le_of_ble_eq_true rfl) dJ4_init_3_57 (fun H locs hP hD hS => ?_)
      have hP : va_P (dC, dI) vwCl [(ea, .inr (7, [.null, .null, .null, .ref sa, .null, .int 0]))] H := hP
      have hD : va_D A [(ea, .inr (7, [.null, .null, .null, .ref sa, .null, .int 0]))] := hD
      subst hQe
      exact W.vret hx hb hr (fun tz ht hW => ⟨⟨(), rfl, trivial, B1_at ht (hP.sub [0] rfl) (hD.sub [0] (by decide) rfl) trivial⟩, hS.F ht⟩) hS.2.2 dJ4_init_3_60
set_option maxHeartbeats 4000000 in
theorem xj5_8n {l : Launch} {dC : Nat → ClassId} {dI : Nat → Nat → Nat} {dA : Nat → ClassId} {s0 : State} {b0 : Addr} (Z : Z0 l dC dI dA s0 b0) (A : Nat → Prop) (sz : Nat) (hA : ∀ q : Nat, sz ≤ q → A q) {σ : Nat → Nat} (Y : SS (dC, dI) dA σ s0) (ea sa : Nat) : Met l yJ5_init_2 (ws_ yJ5_init_2 cJ5_init_2 5 none) ({ frames := 3, cells := 0, slots := 0, locals := 180 } : Room) (gP [.ref ea, .ref sa, .null, .int (nI 0), .int (nI 0)] s0 A (fun H => H.size = sz ∧ va_P (dC, dI) vwCl [(ea, .inr (7, [.null, .null, .null, .null, .null, .int 0]))] H ∧ va_D A [(ea, .inr (7, [.null, .null, .null, .null, .null, .int 0]))])) (va_Qv (S := Unit) (fun _ => True) (B1 (dC, dI) A (fun _ => [(ea, .inr (7, [.null, .null, .null, .ref sa, .null, .int 0]))]) (fun _ _ => True)) A) 0 0 A := by
  refine Met.ofW (cc := cJ5_init_2) (maxL := 5) (ret := none) (by decide) rfl ?_
  intro p e s m args below meth c s₁ B hml hv
  obtain ⟨hav, hG, hsz, hP, hD⟩ := hv
  have hx := B.exec
  have hb := B.bytes
  have hr := B.returns
  have hts := atoms_spec (ws := (ws_ yJ5_init_2 cJ5_init_2 5 none)) B.pre
  have hts : ∀ w ∈ lw_all, w.before _ s = true := fun w h => hts w (List.mem_cons_of_mem _ h)
  have hown : s.vm.findClass RJ5 = some m.cls := findClass_of_methodNamed B.named
  have hlocks := B.notSynchronized
  have hK := hG.K Z
  have hin : meth.name = "<init>" := (name_of_methodNamed B.named B.method).1
  subst hsz
  have hS : va_S A s.heap s.heap [] := va_S.rf
  have hl := lv_entry ([.ref ea, .ref sa, .null, .int (nI 0), .int (nI 0)]) (n := 5) (Nat.le_of_ble_eq_true rfl)
  rw [show entryFrame m args 5 = entryFrame m ([.ref ea, .ref sa, .null, .int (nI 0), .int (nI 0)] : List Value).toArray 5 from by rw [hav], lg_entry_eq]
  generalize (lg_sl ([.ref ea, .ref sa, .null, .int (nI 0), .int (nI 0)]) ++ List.replicate (5 - (lg_sl ([.ref ea, .ref sa, .null, .int (nI 0), .int (nI 0)])).length) Slot.unset).toArray = ls at hl ⊢
  have hl : lv_has ls 5 [(0, .ref ea), (1, .ref sa), (2, .null), (3, .int (nI 0)), (4, .int (nI 0))] := hl
  generalize hQe : MQ below _ _ s _ _ _ = Q
  change W p l e ({ frames := 3, cells := 0, slots := 0, locals := 180 } : Room) s m args below meth c s.heap [] 0 0 Q (F0 m 0 ls [])
  refine lv_aload_n hx hb dJ5_init_2_0 rfl (lv_at hl 0 rfl) ?_
  refine lv_aload_n hx hb dJ5_init_2_1 rfl (lv_at hl 1 rfl) ?_
  refine lv_aload_nN hx hb dJ5_init_2_2 rfl (lv_at hl 2 rfl) ?_
  refine lv_iload_n hx hb dJ5_init_2_3 rfl (lv_at hl 3 rfl) ?_
  refine lv_iload hx hb dJ5_init_2_4 (lv_at hl 4 rfl) ?_
  have hF9 := va_free (wc := [(ea, .inr (7, [.null, .null, .null, .null, .null, .int 0]))]) hD hS (fun q h => hA q h) [0] rfl
  refine c_v (wr := []) (va_runI (As := [.ref sa, .null, .int (nI 0), .int (nI 0)]) (rest := []) ⟨hx, hb, hml, hown, hts⟩ (xj4_8n Z (va_A [(ea, .inr (7, [.null, .null, .null, .null, .null, .int 0]))] s.heap.size) s.heap.size (fun q h => Or.inr h) Y ea sa) (cwI 4 hts (lw_meth q539) rfl rfl rfl (hts _ q108) (hts _ q537) (hts _ q538) rfl (by decide +kernel) ⟨Nat.le_of_ble_eq_true rfl, Nat.le_of_ble_eq_true rfl⟩) (gP_S hG hS (fun q _ h => hF9 q h) ⟨rfl, (hP.sub (ws' := [(ea, .inr (7, [.null, .null, .null, .null, .null, .int 0]))]) [0] rfl), (hD.sub (ws' := [(ea, .inr (7, [.null, .null, .null, .null, .null, .int 0]))]) [0] (by decide) rfl).self⟩) rfl rfl hl.1 rfl (lv_room (Nat.le_of_ble_eq_true rfl)) dJ5_init_2_6 ⟨by first | decide | omega, by first | decide | omega⟩) hP hD hS hA [0] [] rfl rfl (by decide) (by decide) (fun u9 H locs hq hX hz hk hP hD hS => ?_)
  have hP : va_P (dC, dI) vwCl [(ea, .inr (7, [.null, .null, .null, .ref sa, .null, .int 0]))] H := hP
  have hD : va_D A [(ea, .inr (7, [.null, .null, .null, .ref sa, .null, .int 0]))] := hD
  subst hQe
  exact W.vret hx hb hr (fun tz ht hW => ⟨⟨(), rfl, trivial, B1_at ht (hP.sub [0] rfl) (hD.sub [0] (by decide) rfl) trivial⟩, hS.F ht⟩) hS.2.2 dJ5_init_2_9
set_option maxHeartbeats 4000000 in
theorem x8_init {l : Launch} {dC : Nat → ClassId} {dI : Nat → Nat → Nat} {dA : Nat → ClassId} {s0 : State} {b0 : Addr} (Z : Z0 l dC dI dA s0 b0) (A : Nat → Prop) (sz : Nat) (hA : ∀ q : Nat, sz ≤ q → A q) {σ : Nat → Nat} (Y : SS (dC, dI) dA σ s0) (ea : Nat) : Met l yX8_init (ws_ yX8_init cX8_init 1 none) ({ frames := 4, cells := 0, slots := 0, locals := 240 } : Room) (gP [.ref ea] s0 A (fun H => H.size = sz ∧ va_P (dC, dI) vwCl [(ea, .inr (7, [.null, .null, .null, .null, .null, .int 0]))] H ∧ va_D A [(ea, .inr (7, [.null, .null, .null, .null, .null, .int 0]))])) (va_Qv (S := Unit) (fun _ => True) (B1 (dC, dI) A (fun _ => [(ea, .inr (7, [.null, .null, .null, .ref (σ 55), .null, .int 0]))]) (fun _ _ => True)) A) 0 0 A := by
  refine Met.ofW (cc := cX8_init) (maxL := 1) (ret := none) (by decide) rfl ?_
  intro p e s m args below meth c s₁ B hml hv
  obtain ⟨hav, hG, hsz, hP, hD⟩ := hv
  have hx := B.exec
  have hb := B.bytes
  have hr := B.returns
  have hts := atoms_spec (ws := (ws_ yX8_init cX8_init 1 none)) B.pre
  have hts : ∀ w ∈ lw_all, w.before _ s = true := fun w h => hts w (List.mem_cons_of_mem _ h)
  have hown : s.vm.findClass RX8 = some m.cls := findClass_of_methodNamed B.named
  have hlocks := B.notSynchronized
  have hK := hG.K Z
  have hin : meth.name = "<init>" := (name_of_methodNamed B.named B.method).1
  subst hsz
  have hS : va_S A s.heap s.heap [] := va_S.rf
  have hl := lv_entry ([.ref ea]) (n := 1) (Nat.le_of_ble_eq_true rfl)
  rw [show entryFrame m args 1 = entryFrame m ([.ref ea] : List Value).toArray 1 from by rw [hav], lg_entry_eq]
  generalize (lg_sl ([.ref ea]) ++ List.replicate (1 - (lg_sl ([.ref ea])).length) Slot.unset).toArray = ls at hl ⊢
  have hl : lv_has ls 1 [(0, .ref ea)] := hl
  generalize hQe : MQ below _ _ s _ _ _ = Q
  change W p l e ({ frames := 4, cells := 0, slots := 0, locals := 240 } : Room) s m args below meth c s.heap [] 0 0 Q (F0 m 0 ls [])
  refine lv_aload_n hx hb dX8_init_0 rfl (lv_at hl 0 rfl) ?_
  refine va_ldcS hx hb hown (vk_R.warm hG.1 (SS.st5 Y)) dX8_init_1 ?_
  refine lv_null hx hb dX8_init_3 ?_
  refine lv_iconst (v := nI 0) hx hb dX8_init_4 (by decide) ?_
  refine lv_iconst (v := nI 0) hx hb dX8_init_5 (by decide) ?_
  have hF9 := va_free (wc := [(ea, .inr (7, [.null, .null, .null, .null, .null, .int 0]))]) hD hS (fun q h => hA q h) [0] rfl
  refine c_v (wr := []) (va_runI (As := [.ref (σ 55), .null, .int (nI 0), .int (nI 0)]) (rest := []) ⟨hx, hb, hml, hown, hts⟩ (xj5_8n Z (va_A [(ea, .inr (7, [.null, .null, .null, .null, .null, .int 0]))] s.heap.size) s.heap.size (fun q h => Or.inr h) Y ea (σ 55)) (cwI 4 hts (lw_meth q536) rfl rfl rfl (hts _ q109) (hts _ q534) (hts _ q535) rfl (by decide +kernel) ⟨Nat.le_of_ble_eq_true rfl, Nat.le_of_ble_eq_true rfl⟩) (gP_S hG hS (fun q _ h => hF9 q h) ⟨rfl, (hP.sub (ws' := [(ea, .inr (7, [.null, .null, .null, .null, .null, .int 0]))]) [0] rfl), (hD.sub (ws' := [(ea, .inr (7, [.null, .null, .null, .null, .null, .int 0]))]) [0] (by decide) rfl).self⟩) rfl rfl hl.1 rfl (lv_room (Nat.le_of_ble_eq_true rfl)) dX8_init_6 ⟨by first | decide | omega, by first | decide | omega⟩) hP hD hS hA [0] [] rfl rfl (by decide) (by decide) (fun u9 H locs hq hX hz hk hP hD hS => ?_)
  have hP : va_P (dC, dI) vwCl [(ea, .inr (7, [.null, .null, .null, .ref (σ 55), .null, .int 0]))] H := hP
  have hD : va_D A [(ea, .inr (7, [.null, .null, .null, .ref (σ 55), .null, .int 0]))] := hD
  subst hQe
  exact W.vret hx hb hr (fun tz ht hW => ⟨⟨(), rfl, trivial, B1_at ht (hP.sub [0] rfl) (hD.sub [0] (by decide) rfl) trivial⟩, hS.F ht⟩) hS.2.2 dX8_init_9
set_option maxHeartbeats 4000000 in
theorem x6_fit {l : Launch} {dC : Nat → ClassId} {dI : Nat → Nat → Nat} {dA : Nat → ClassId} {s0 : State} {b0 : Addr} (Z : Z0 l dC dI dA s0 b0) (A : Nat → Prop) (sz : Nat) (hA : ∀ q : Nat, sz ≤ q → A q) {σ : Nat → Nat} (Y : SS (dC, dI) dA σ s0) (ar : Nat) (u0 : Int64) (f : Nat → Int64) (hu : 0 < aN u0) (hum : u0 ≠ Int64.minValue) (hfm : ∀ j, j < 32 → f j ≠ Int64.minValue) : vx_Met l yX6_fit (ws_ yX6_fit cX6_fit 6 (some (.object "BladeAlgebra$Multi"))) ({ frames := 5, cells := 1, slots := 6, locals := 300 } : Room) (gP [.ref ar, .long u0] s0 A (fun H => H.size = sz ∧ va_P (dC, dI) vwCl [(ar, .inl (dA 1, 32, .inr (.inl f)))] H ∧ va_D A [(ar, .inl (dA 1, 32, .inr (.inl f)))])) (va_Qr (S := MV) (fun u => fitG u0 f = some u) (B1r (dC, dI) A (fun u q => MA dA q ar u) (fun _ _ _ => True)) A) (vx_X (S := Unit) (fun _ => fitG u0 f = none) (fun _ E _ _ => E = "BladeAlgebra$Unfit") A) 1 6 A := by
  refine vx_ofW (cc := cX6_fit) (maxL := 6) (ret := (some (.object "BladeAlgebra$Multi"))) (by decide) rfl ?_
  intro p e s m args below meth c s₁ B hml hnoH hv
  obtain ⟨hav, hG, hsz, hP, hD⟩ := hv
  have hx := B.exec
  have hb := B.bytes
  have hr := B.returns
  have hts := atoms_spec (ws := (ws_ yX6_fit cX6_fit 6 (some (.object "BladeAlgebra$Multi")))) B.pre
  have hts : ∀ w ∈ lw_all, w.before _ s = true := fun w h => hts w (List.mem_cons_of_mem _ h)
  have hown : s.vm.findClass RX6 = some m.cls := findClass_of_methodNamed B.named
  have hlocks := B.notSynchronized
  have hK := hG.K Z
  subst hsz
  have hS : va_S A s.heap s.heap [] := va_S.rf
  have hl := lv_entry ([.ref ar, .long u0]) (n := 6) (Nat.le_of_ble_eq_true rfl)
  rw [show entryFrame m args 6 = entryFrame m ([.ref ar, .long u0] : List Value).toArray 6 from by rw [hav], lg_entry_eq]
  generalize (lg_sl ([.ref ar, .long u0]) ++ List.replicate (6 - (lg_sl ([.ref ar, .long u0])).length) Slot.unset).toArray = ls at hl ⊢
  have hl : lv_has ls 6 [(0, .ref ar), (1, .long u0)] := hl
  generalize hQe : vx_MQ below _ _ _ s _ _ _ = Q
  change W p l e ({ frames := 5, cells := 1, slots := 6, locals := 300 } : Room) s m args below meth c s.heap [] 0 0 Q (F0 m 0 ls [])
  have hg0 : ∀ n, 0 < gA u0 f n := fun n => gA_pos hu f n
  have hg1 : ∀ n, gA u0 f n < 2 ^ 63 := fun n => Nat.lt_of_le_of_lt (gA_le hu f n) (aN_lt hum)
  have hgz : ¬ lN (gA u0 f 32) * sgL u0 = 0 := gs_nz (hg0 32) (hg1 32)
  refine lv_lload_n hx hb dX6_fit_0 rfl (lv_at hl 1 rfl) ?_
  refine lv_lstore_n (lv' := [(3, .long u0), (0, .ref ar), (1, .long u0)]) hx hb dX6_fit_1 rfl hl (by decide) rfl (fun ls hl => ?_)
  refine lv_iconst (v := nI 0) hx hb dX6_fit_2 (by decide) ?_
  refine lv_istore (lv' := [(5, .int (nI 0)), (3, .long u0), (0, .ref ar), (1, .long u0)]) hx hb dX6_fit_3 hl (by decide) rfl (fun ls hl => ?_)
  have loop_1 : ∀ (n9_1 : Nat) (k : Nat) (b : Int64) (H : Heap) (locs : List Loc) (ls : Array Slot), 32 - k < n9_1 → (k ≤ 32) → (aN b = gA u0 f k) → (b ≠ Int64.minValue) → (k = 0 ∨ b = lN (gA u0 f k)) → va_P (dC, dI) vwCl [(ar, .inl (dA 1, 32, .inr (.inl f)))] H → va_D A [(ar, .inl (dA 1, 32, .inr (.inl f)))] → va_S A s.heap H locs → lv_has ls 6 [(0, .ref ar), (1, .long u0), (3, .long b), (5, .int (nI k))] → W p l e ({ frames := 5, cells := 1, slots := 6, locals := 300 } : Room) s m args below meth c H locs 0 0 Q (F0 m 5 ls []) := by
    intro n9_1
    induction n9_1 with
    | zero => intro k b H locs ls hm_1; exact absurd hm_1 (Nat.not_lt_zero _)
    | succ n9_1 ih_1 =>
      intro k b H locs ls hm_1 hk9 hb9 hbm hk0 hP hD hS hl
      refine lv_iload hx hb dX6_fit_5 (lv_at hl 3 rfl) ?_
      refine lv_bipush (v := nI 32) hx hb dX6_fit_7 (by decide) ?_
      refine lv_icmp_ge (tgt := 27) hx hb dX6_fit_9 (by decide) (fun c_9 => ?_) (fun c_9 => ?_)
      · have c_9 : 32 ≤ k := (nI_leI (a := 32) (b := k) (by omega) (by omega)).mp c_9
        obtain rfl : k = 32 := by omega
        obtain rfl : b = lN (gA u0 f 32) := hk0.elim (fun h => absurd h (by decide)) id
        have J_2 : ∀  (H : Heap) (locs : List Loc) (ls : Array Slot), va_P (dC, dI) vwCl [(ar, .inl (dA 1, 32, .inr (.inl f)))] H → va_D A [(ar, .inl (dA 1, 32, .inr (.inl f)))] → va_S A s.heap H locs → lv_has ls 6 [(0, .ref ar), (1, .long u0), (3, .long (lN (gA u0 f 32))), (5, .int (nI 32))] → W p l e ({ frames := 5, cells := 1, slots := 6, locals := 300 } : Room) s m args below meth c H locs 0 0 Q (F0 m 39 ls [.long (lN (gA u0 f 32) * sgL u0)]) := by
          intro  H locs ls  hP hD hS hl
          refine lv_lstore_n (lv' := [(3, .long (lN (gA u0 f 32) * sgL u0)), (0, .ref ar), (1, .long u0), (5, .int (nI 32))]) hx hb dX6_fit_39 rfl hl (by decide) rfl (fun ls hl => ?_)
          refine lv_iconst (v := nI 0) hx hb dX6_fit_40 (by decide) ?_
          refine lv_istore (lv' := [(5, .int (nI 0)), (3, .long (lN (gA u0 f 32) * sgL u0)), (0, .ref ar), (1, .long u0)]) hx hb dX6_fit_41 hl (by decide) rfl (fun ls hl => ?_)
          have e9 : (f : Nat → Int64) = (dvG f u0 (lN (gA u0 f 32)) 0) := (dvG_0 _ _ _).symm
          rw [e9] at hP hD; clear e9
          have loop_3 : ∀ (n9_3 : Nat) (j : Nat) (H : Heap) (locs : List Loc) (ls : Array Slot), 32 - j < n9_3 → (j ≤ 32) → (∀ i, i < j → smallB (f i * sgL u0 / (lN (gA u0 f 32))) = true) → va_P (dC, dI) vwCl [(ar, .inl (dA 1, 32, .inr (.inl (dvG f u0 (lN (gA u0 f 32)) j))))] H → va_D A [(ar, .inl (dA 1, 32, .inr (.inl (dvG f u0 (lN (gA u0 f 32)) j))))] → va_S A s.heap H locs → lv_has ls 6 [(0, .ref ar), (1, .long u0), (3, .long (lN (gA u0 f 32) * sgL u0)), (5, .int (nI j))] → W p l e ({ frames := 5, cells := 1, slots := 6, locals := 300 } : Room) s m args below meth c H locs 0 0 Q (F0 m 43 ls []) := by
            intro n9_3
            induction n9_3 with
            | zero => intro j H locs ls hm_3; exact absurd hm_3 (Nat.not_lt_zero _)
            | succ n9_3 ih_3 =>
              intro j H locs ls hm_3 hj9 ha9 hP hD hS hl
              refine lv_iload hx hb dX6_fit_43 (lv_at hl 3 rfl) ?_
              refine lv_bipush (v := nI 32) hx hb dX6_fit_45 (by decide) ?_
              refine lv_icmp_ge (tgt := 86) hx hb dX6_fit_47 (by decide) (fun c_47 => ?_) (fun c_47 => ?_)
              · have c_47 : 32 ≤ j := (nI_leI (a := 32) (b := j) (by omega) (by omega)).mp c_47
                obtain rfl : j = 32 := by omega
                refine lv_lload_n hx hb dX6_fit_86 rfl (lv_at hl 1 rfl) ?_
                refine lv_lload_n hx hb dX6_fit_87 rfl (lv_at hl 2 rfl) ?_
                refine lv_ldiv hx hb dX6_fit_88 hgz ?_
                refine e_l (y := u0 * sgL u0 / (lN (gA u0 f 32))) (dv_sg (hg0 32) (hg1 32) hum) ?_
                refine lv_ldc2 hx hb hown (hts _ q520) dX6_fit_89 ?_
                refine W.lcmp hx hb dX6_fit_92 ?_
                refine lv_if_le (tgt := 104) hx hb dX6_fit_93 (by decide) (fun c_93 => ?_) (fun c_93 => ?_)
                · have c_93 : (u0 * sgL u0 / (lN (gA u0 f 32))) ≤ (100000000 : Int64) := (lg_cmp_le _ _).mp c_93
                  have hft : fitG u0 f = some (redS (u0 * sgL u0) (fun j => f j * sgL u0)) := fitG_s hu hum hfm c_93 ha9
                  have hP := P_L hP 0 (fun j => redS (u0 * sgL u0) (fun j => f j * sgL u0) (j + 1)) rfl (fun j hj => dvG_red hum hfm hj)
                  have hD := va_D.set (e := .inl (dA 1, 32, .inr (.inl (fun j => redS (u0 * sgL u0) (fun j => f j * sgL u0) (j + 1))))) hD (p := 0) rfl
                  have hP : va_P (dC, dI) vwCl [(ar, .inl (dA 1, 32, .inr (.inl (fun j => redS (u0 * sgL u0) (fun j => f j * sgL u0) (j + 1)))))] H := hP
                  have hD : va_D A [(ar, .inl (dA 1, 32, .inr (.inl (fun j => redS (u0 * sgL u0) (fun j => f j * sgL u0) (j + 1)))))] := hD
                  refine va_new (D := (dC, dI)) (ci := 0) (fs := [.null, .long 0]) (C := RX6) (T := TX6) (N := 2) hx hb hts in_X6 tyX6 tyX6_ok hown (hts _ q543) (hts _ q544) (hts _ q102) hK hP hD hS hA rfl (fun j hj => by rcases (show j = 0 ∨ j = 1 by omega) with rfl | rfl <;> rfl) (by first | decide | omega) (by first | decide | omega) dX6_fit_104 (fun nw_4 H hP hD hS => ?_)
                  have hP : va_P (dC, dI) vwCl [(ar, .inl (dA 1, 32, .inr (.inl (fun j => redS (u0 * sgL u0) (fun j => f j * sgL u0) (j + 1))))), (nw_4, .inr (0, [.null, .long 0]))] H := hP
                  have hD : va_D A [(ar, .inl (dA 1, 32, .inr (.inl (fun j => redS (u0 * sgL u0) (fun j => f j * sgL u0) (j + 1))))), (nw_4, .inr (0, [.null, .long 0]))] := hD
                  refine lv_dup hx hb dX6_fit_107 rfl ?_
                  refine lv_aload_n hx hb dX6_fit_108 rfl (lv_at hl 0 rfl) ?_
                  refine lv_lload_n hx hb dX6_fit_109 rfl (lv_at hl 1 rfl) ?_
                  refine lv_lload_n hx hb dX6_fit_110 rfl (lv_at hl 2 rfl) ?_
                  refine lv_ldiv hx hb dX6_fit_111 hgz ?_
                  refine e_l (y := redS (u0 * sgL u0) (fun j => f j * sgL u0) 0) ((dv_sg (hg0 32) (hg1 32) hum).trans (red_0 hum hfm)) ?_
                  have hF9 := va_free (wc := [(nw_4, .inr (0, [.null, .long 0]))]) hD hS (fun q h => hA q h) [1] rfl
                  refine c_v (wr := [(ar, .inl (dA 1, 32, .inr (.inl (fun j => redS (u0 * sgL u0) (fun j => f j * sgL u0) (j + 1)))))]) (va_runI (As := [.ref ar, .long (redS (u0 * sgL u0) (fun j => f j * sgL u0) 0)]) (rest := [.ref nw_4]) ⟨hx, hb, hml, hown, hts⟩ (x6_init2 Z (va_A [(nw_4, .inr (0, [.null, .long 0]))] H.size) H.size (fun q h => Or.inr h) nw_4 ar (redS (u0 * sgL u0) (fun j => f j * sgL u0) 0)) (cwI 2 hts (lw_meth q547) rfl rfl rfl (hts _ q102) (hts _ q545) (hts _ q546) rfl (by decide +kernel) ⟨Nat.le_of_ble_eq_true rfl, Nat.le_of_ble_eq_true rfl⟩) (gP_S hG hS (fun q _ h => hF9 q h) ⟨rfl, (hP.sub (ws' := [(nw_4, .inr (0, [.null, .long 0]))]) [1] rfl), (hD.sub (ws' := [(nw_4, .inr (0, [.null, .long 0]))]) [1] (by decide) rfl).self⟩) rfl rfl hl.1 rfl (lv_room (Nat.le_of_ble_eq_true rfl)) dX6_fit_112 ⟨by first | decide | omega, by first | decide | omega⟩) hP hD hS hA [1] [0] rfl rfl (by decide) (by decide) (fun u9 H locs hq hX hz hk hP hD hS => ?_)
                  have hP : va_P (dC, dI) vwCl [(ar, .inl (dA 1, 32, .inr (.inl (fun j => redS (u0 * sgL u0) (fun j => f j * sgL u0) (j + 1))))), (nw_4, .inr (0, [.ref ar, .long (redS (u0 * sgL u0) (fun j => f j * sgL u0) 0)]))] H := hP
                  have hD : va_D A [(ar, .inl (dA 1, 32, .inr (.inl (fun j => redS (u0 * sgL u0) (fun j => f j * sgL u0) (j + 1))))), (nw_4, .inr (0, [.ref ar, .long (redS (u0 * sgL u0) (fun j => f j * sgL u0) 0)]))] := hD
                  subst hQe
                  refine vx_ret ?_
                  refine W.widen (k := 1) (n := 6) (by first | decide | omega) (by first | decide | omega) ?_
                  exact W.aret (v := .ref nw_4) hx hb hr (Or.inl ⟨_, rfl⟩) (Or.inr ⟨_, rfl⟩) (fun tz ht hW => ⟨⟨(redS (u0 * sgL u0) (fun j => f j * sgL u0)), nw_4, rfl, hft, B1r_at ht (hP.sub [1, 0] rfl) (hD.sub [1, 0] (by decide) rfl) trivial⟩, hS.F ht⟩) hS.2.2 dX6_fit_115
                · have c_93 : ¬ (u0 * sgL u0 / (lN (gA u0 f 32))) ≤ (100000000 : Int64) := fun h => c_93 ((lg_cmp_le _ _).mpr h)
                  have hnf : fitG u0 f = none := fitG_u hum hfm c_93
                  refine va_new (D := (dC, dI)) (ci := 7) (fs := [.null, .null, .null, .null, .null, .int 0]) (C := RX8) (T := TX8) (N := 6) hx hb hts in_X8 tyX8 tyX8_ok hown (hts _ q521) (hts _ q522) (hts _ q116) hK hP hD hS hA rfl (fun j hj => by rcases (show j = 0 ∨ j = 1 ∨ j = 2 ∨ j = 3 ∨ j = 4 ∨ j = 5 by omega) with rfl | rfl | rfl | rfl | rfl | rfl <;> rfl) (by first | decide | omega) (by first | decide | omega) dX6_fit_96 (fun nw_5 H hP hD hS => ?_)
                  have hP : va_P (dC, dI) vwCl [(ar, .inl (dA 1, 32, .inr (.inl (dvG f u0 (lN (gA u0 f 32)) 32)))), (nw_5, .inr (7, [.null, .null, .null, .null, .null, .int 0]))] H := hP
                  have hD : va_D A [(ar, .inl (dA 1, 32, .inr (.inl (dvG f u0 (lN (gA u0 f 32)) 32)))), (nw_5, .inr (7, [.null, .null, .null, .null, .null, .int 0]))] := hD
                  refine lv_dup hx hb dX6_fit_99 rfl ?_
                  have hF9 := va_free (wc := [(nw_5, .inr (7, [.null, .null, .null, .null, .null, .int 0]))]) hD hS (fun q h => hA q h) [1] rfl
                  refine c_v (wr := [(ar, .inl (dA 1, 32, .inr (.inl (dvG f u0 (lN (gA u0 f 32)) 32))))]) (va_runI (As := []) (rest := [.ref nw_5]) ⟨hx, hb, hml, hown, hts⟩ (x8_init Z (va_A [(nw_5, .inr (7, [.null, .null, .null, .null, .null, .int 0]))] H.size) H.size (fun q h => Or.inr h) Y nw_5) (cwI 0 hts (lw_meth q532) rfl rfl rfl (hts _ q116) (hts _ q530) (hts _ q531) rfl (by decide +kernel) ⟨Nat.le_of_ble_eq_true rfl, Nat.le_of_ble_eq_true rfl⟩) (gP_S hG hS (fun q _ h => hF9 q h) ⟨rfl, (hP.sub (ws' := [(nw_5, .inr (7, [.null, .null, .null, .null, .null, .int 0]))]) [1] rfl), (hD.sub (ws' := [(nw_5, .inr (7, [.null, .null, .null, .null, .null, .int 0]))]) [1] (by decide) rfl).self⟩) rfl rfl hl.1 rfl (lv_room (Nat.le_of_ble_eq_true rfl)) dX6_fit_100 ⟨by first | decide | omega, by first | decide | omega⟩) hP hD hS hA [1] [0] rfl rfl (by decide) (by decide) (fun u9 H locs hq hX hz hk hP hD hS => ?_)
                  have hP : va_P (dC, dI) vwCl [(ar, .inl (dA 1, 32, .inr (.inl (dvG f u0 (lN (gA u0 f 32)) 32)))), (nw_5, .inr (7, [.null, .null, .null, .ref (σ 55), .null, .int 0]))] H := hP
                  have hD : va_D A [(ar, .inl (dA 1, 32, .inr (.inl (dvG f u0 (lN (gA u0 f 32)) 32)))), (nw_5, .inr (7, [.null, .null, .null, .ref (σ 55), .null, .int 0]))] := hD
                  refine vx_athrow hx hb dX6_fit_103 ?_
                  obtain ⟨ce, h1, h2, h3⟩ := va_thr hK hP (ci := 7) (q0 := 1) rfl rfl
                  subst hQe
                  exact vx_out (fun x h => (hnoH x h).elim) hlocks h1 h2 h3 (fun t10 e10 _ => ⟨(), hnf, rfl, hS.F e10⟩) hS.2.2 (by first | decide | omega) (by first | decide | omega)
              · have c_47 : ¬ 32 ≤ j := fun h => c_47 ((nI_leI (a := 32) (b := j) (by omega) (by omega)).mpr h)
                refine lv_aload_n hx hb dX6_fit_50 rfl (lv_at hl 0 rfl) ?_
                refine lv_iload hx hb dX6_fit_51 (lv_at hl 3 rfl) ?_
                refine lv_dup2_11 hx hb dX6_fit_53 rfl rfl ?_
                refine a_lald hx hb hK hP 0 1 rfl rfl (by omega) (by omega) dX6_fit_54 ?_
                refine lv_lload_n hx hb dX6_fit_55 rfl (lv_at hl 2 rfl) ?_
                refine lv_ldiv hx hb dX6_fit_56 hgz ?_
                refine a_last hx hb hK hP hD hS 0 1 rfl rfl (by omega) (by omega) dX6_fit_57 (fun H locs hP hD hS => ?_)
                have hP : va_P (dC, dI) vwCl [(ar, .inl (dA 1, 32, .inr (.inl (vp_updL (dvG f u0 (lN (gA u0 f 32)) j) j (((dvG f u0 (lN (gA u0 f 32)) j) j) / (lN (gA u0 f 32) * sgL u0))))))] H := hP
                have hD : va_D A [(ar, .inl (dA 1, 32, .inr (.inl (vp_updL (dvG f u0 (lN (gA u0 f 32)) j) j (((dvG f u0 (lN (gA u0 f 32)) j) j) / (lN (gA u0 f 32) * sgL u0))))))] := hD
                have e9 : (vp_updL (dvG f u0 (lN (gA u0 f 32)) j) j (((dvG f u0 (lN (gA u0 f 32)) j) j) / (lN (gA u0 f 32) * sgL u0)) : Nat → Int64) = (dvG f u0 (lN (gA u0 f 32)) (j + 1)) := dvG_s (hg0 32) (hg1 32) (hfm j (by omega))
                rw [e9] at hP hD; clear e9
                refine lv_aload_n hx hb dX6_fit_58 rfl (lv_at hl 0 rfl) ?_
                refine lv_iload hx hb dX6_fit_59 (lv_at hl 3 rfl) ?_
                refine a_lald hx hb hK hP 0 1 rfl rfl (by omega) (by omega) dX6_fit_61 ?_
                refine e_l (y := f j * sgL u0 / (lN (gA u0 f 32))) (dvG_at) ?_
                refine va_mabs_long hx hb (hml.trans hl.1.symm) hown (hts _ q519) (hts _ q517) (hts _ q115) (hts _ q518) (by decide) (Nat.le_of_ble_eq_true rfl) (by first | decide | omega) (by first | decide | omega) dX6_fit_62 ?_
                refine e_l (y := absL (f j * sgL u0 / (lN (gA u0 f 32)))) (abs_if _) ?_
                refine lv_ldc2 hx hb hown (hts _ q520) dX6_fit_65 ?_
                refine W.lcmp hx hb dX6_fit_68 ?_
                refine lv_if_le (tgt := 80) hx hb dX6_fit_69 (by decide) (fun c_69 => ?_) (fun c_69 => ?_)
                · have c_69 : (absL (f j * sgL u0 / (lN (gA u0 f 32)))) ≤ (100000000 : Int64) := (lg_cmp_le _ _).mp c_69
                  have hs9 := abs_sm (dv_nm (hg0 32) (hg1 32) (hfm j (by omega))) c_69
                  refine lv_iinc (v := nI (j + 1)) (lv' := [(5, .int (nI (j + 1))), (0, .ref ar), (1, .long u0), (3, .long (lN (gA u0 f 32) * sgL u0))]) hx hb dX6_fit_80 hl (k := 3) rfl (by exact nI_add _ 1) (by decide) rfl (fun ls hl => ?_)
                  refine lv_goto (tgt := 43) hx hb dX6_fit_83 (by decide) ?_
                  exact ih_3 (j + 1) H locs ls (by omega) (by omega) (fun i h => (Nat.lt_succ_iff_lt_or_eq.mp h).elim (ha9 i) (fun e => e ▸ hs9)) (hP.sub [0] rfl) (hD.sub [0] (by decide) rfl) hS (lv_sub hl [1, 2, 3, 0] rfl)
                · have c_69 : ¬ (absL (f j * sgL u0 / (lN (gA u0 f 32)))) ≤ (100000000 : Int64) := fun h => c_69 ((lg_cmp_le _ _).mpr h)
                  have hnf : fitG u0 f = none := fitG_c hum hfm (by omega : j < 32) (abs_ns c_69)
                  refine va_new (D := (dC, dI)) (ci := 7) (fs := [.null, .null, .null, .null, .null, .int 0]) (C := RX8) (T := TX8) (N := 6) hx hb hts in_X8 tyX8 tyX8_ok hown (hts _ q521) (hts _ q522) (hts _ q116) hK hP hD hS hA rfl (fun j hj => by rcases (show j = 0 ∨ j = 1 ∨ j = 2 ∨ j = 3 ∨ j = 4 ∨ j = 5 by omega) with rfl | rfl | rfl | rfl | rfl | rfl <;> rfl) (by first | decide | omega) (by first | decide | omega) dX6_fit_72 (fun nw_6 H hP hD hS => ?_)
                  have hP : va_P (dC, dI) vwCl [(ar, .inl (dA 1, 32, .inr (.inl (dvG f u0 (lN (gA u0 f 32)) (j + 1))))), (nw_6, .inr (7, [.null, .null, .null, .null, .null, .int 0]))] H := hP
                  have hD : va_D A [(ar, .inl (dA 1, 32, .inr (.inl (dvG f u0 (lN (gA u0 f 32)) (j + 1))))), (nw_6, .inr (7, [.null, .null, .null, .null, .null, .int 0]))] := hD
                  refine lv_dup hx hb dX6_fit_75 rfl ?_
                  have hF9 := va_free (wc := [(nw_6, .inr (7, [.null, .null, .null, .null, .null, .int 0]))]) hD hS (fun q h => hA q h) [1] rfl
                  refine c_v (wr := [(ar, .inl (dA 1, 32, .inr (.inl (dvG f u0 (lN (gA u0 f 32)) (j + 1)))))]) (va_runI (As := []) (rest := [.ref nw_6]) ⟨hx, hb, hml, hown, hts⟩ (x8_init Z (va_A [(nw_6, .inr (7, [.null, .null, .null, .null, .null, .int 0]))] H.size) H.size (fun q h => Or.inr h) Y nw_6) (cwI 0 hts (lw_meth q532) rfl rfl rfl (hts _ q116) (hts _ q530) (hts _ q531) rfl (by decide +kernel) ⟨Nat.le_of_ble_eq_true rfl, Nat.le_of_ble_eq_true rfl⟩) (gP_S hG hS (fun q _ h => hF9 q h) ⟨rfl, (hP.sub (ws' := [(nw_6, .inr (7, [.null, .null, .null, .null, .null, .int 0]))]) [1] rfl), (hD.sub (ws' := [(nw_6, .inr (7, [.null, .null, .null, .null, .null, .int 0]))]) [1] (by decide) rfl).self⟩) rfl rfl hl.1 rfl (lv_room (Nat.le_of_ble_eq_true rfl)) dX6_fit_76 ⟨by first | decide | omega, by first | decide | omega⟩) hP hD hS hA [1] [0] rfl rfl (by decide) (by decide) (fun u9 H locs hq hX hz hk hP hD hS => ?_)
                  have hP : va_P (dC, dI) vwCl [(ar, .inl (dA 1, 32, .inr (.inl (dvG f u0 (lN (gA u0 f 32)) (j + 1))))), (nw_6, .inr (7, [.null, .null, .null, .ref (σ 55), .null, .int 0]))] H := hP
                  have hD : va_D A [(ar, .inl (dA 1, 32, .inr (.inl (dvG f u0 (lN (gA u0 f 32)) (j + 1))))), (nw_6, .inr (7, [.null, .null, .null, .ref (σ 55), .null, .int 0]))] := hD
                  refine vx_athrow hx hb dX6_fit_79 ?_
                  obtain ⟨ce, h1, h2, h3⟩ := va_thr hK hP (ci := 7) (q0 := 1) rfl rfl
                  subst hQe
                  exact vx_out (fun x h => (hnoH x h).elim) hlocks h1 h2 h3 (fun t10 e10 _ => ⟨(), hnf, rfl, hS.F e10⟩) hS.2.2 (by first | decide | omega) (by first | decide | omega)
          exact loop_3 _ 0 H locs ls (Nat.lt_succ_self _) (by omega) (fun i h => absurd h (Nat.not_lt_zero _)) hP hD hS (lv_sub hl [2, 3, 1, 0] rfl)
        refine lv_lload_n hx hb dX6_fit_27 rfl (lv_at hl 1 rfl) ?_
        refine lv_lconst (v := 0) hx hb dX6_fit_28 rfl ?_
        refine W.lcmp hx hb dX6_fit_29 ?_
        refine lv_if_ge (tgt := 38) hx hb dX6_fit_30 (by decide) (fun c_30 => ?_) (fun c_30 => ?_)
        · have c_30 : 0 ≤ u0 := (lg_cmp_ge _ _).mp c_30
          have hsg : sgL u0 = 1 := if_neg (Int64.not_lt.mpr c_30)
          refine lv_lload_n hx hb dX6_fit_38 rfl (lv_at hl 2 rfl) ?_
          refine e_l (y := lN (gA u0 f 32) * sgL u0) (gs_ep hsg) ?_
          exact J_2  H locs ls  (hP.sub [0] rfl) (hD.sub [0] (by decide) rfl) hS (lv_sub hl [0, 1, 2, 3] rfl)
        · have c_30 : ¬ 0 ≤ u0 := fun h => c_30 ((lg_cmp_ge _ _).mpr h)
          have hsg : sgL u0 = -1 := if_pos (Int64.not_le.mp c_30)
          refine lv_lload_n hx hb dX6_fit_33 rfl (lv_at hl 2 rfl) ?_
          refine lv_lneg hx hb dX6_fit_34 ?_
          refine lv_goto (tgt := 39) hx hb dX6_fit_35 (by decide) ?_
          refine e_l (y := lN (gA u0 f 32) * sgL u0) (gs_en hsg) ?_
          exact J_2  H locs ls  (hP.sub [0] rfl) (hD.sub [0] (by decide) rfl) hS (lv_sub hl [0, 1, 2, 3] rfl)
      · have c_9 : ¬ 32 ≤ k := fun h => c_9 ((nI_leI (a := 32) (b := k) (by omega) (by omega)).mpr h)
        refine lv_lload_n hx hb dX6_fit_12 rfl (lv_at hl 2 rfl) ?_
        refine lv_aload_n hx hb dX6_fit_13 rfl (lv_at hl 0 rfl) ?_
        refine lv_iload hx hb dX6_fit_14 (lv_at hl 3 rfl) ?_
        refine a_lald hx hb hK hP 0 1 rfl rfl (by omega) (by omega) dX6_fit_16 ?_
        refine s_l (va_runSN (As := [.long b, .long (f k)]) (rest := []) ⟨hx, hb, hml, hown, hts⟩ (x1_common Z b (f k) hbm (hfm k (by omega))) ⟨va_cnB 2 hts (lw_meth q515) rfl rfl rfl (va_Nw.warmM hG.1 (va_Nw.of rfl (Z.2.1 _ q513))) (hts _ q96) (by decide +kernel) ⟨Nat.le_of_ble_eq_true rfl, Nat.le_of_ble_eq_true rfl⟩, hts _ q514, trivial⟩ (gP_S hG hS (fun q _ h => h.elim) trivial) rfl rfl hl.1 rfl (lv_room (Nat.le_of_ble_eq_true rfl)) dX6_fit_17 ⟨by first | decide | omega, by first | decide | omega⟩) ?_
        refine e_l (y := lN (gA u0 f (k + 1))) (gcd_b hb9) ?_
        refine lv_lstore_n (lv' := [(3, .long (lN (gA u0 f (k + 1)))), (0, .ref ar), (1, .long u0), (5, .int (nI k))]) hx hb dX6_fit_20 rfl hl (by decide) rfl (fun ls hl => ?_)
        refine lv_iinc (v := nI (k + 1)) (lv' := [(5, .int (nI (k + 1))), (3, .long (lN (gA u0 f (k + 1)))), (0, .ref ar), (1, .long u0)]) hx hb dX6_fit_21 hl (k := 3) rfl (by exact nI_add _ 1) (by decide) rfl (fun ls hl => ?_)
        refine lv_goto (tgt := 5) hx hb dX6_fit_24 (by decide) ?_
        exact ih_1 (k + 1) (lN (gA u0 f (k + 1))) H locs ls (by omega) (by omega) (aN_lN (hg1 _)) (lN_min (hg1 _)) (Or.inr rfl) (hP.sub [0] rfl) (hD.sub [0] (by decide) rfl) hS (lv_sub hl [2, 3, 1, 0] rfl)
  exact loop_1 _ 0 u0 s.heap [] ls (Nat.lt_succ_self _) (by omega) rfl hum (Or.inl rfl) hP hD hS (lv_sub hl [2, 3, 1, 0] rfl)
