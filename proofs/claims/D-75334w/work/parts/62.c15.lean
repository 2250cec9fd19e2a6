section AX
variable {p q r : Nat} {Ms : Nat → MV}
theorem cpy_1 {t a : Int32} (h : (rgB t && rgB a) = false) : cpyX Ms t a = (nI 1, none) := if_pos h
theorem cpy_ok {t a : Nat} (ht : t < 8) (ha : a < 8) : cpyX Ms (nI t) (nI a) = (nI 0, some (Ms a)) := by
  unfold cpyX; rw [rg_t ht, rg_t ha, rg_n ha]; rfl
theorem sml_B (x : Int32) : smallB x.toInt64 = inB x (-100000000) (nI 100000000) := by
  rw [← inL_B]; rfl
theorem set_1 {t b x y : Int32} (h : (rgB t && blB p q r b) = false) : setX p q r Ms t b x y = (nI 1, none) := if_pos h
theorem set_2 {t b : Nat} {x y : Int32} (hn : p + q + r ≤ 5) (ht : t < 8) (hb : b < 2 ^ (p + q + r)) (h : (smallB x.toInt64 && inB y (nI 1) (nI 10000)) = false) : setX p q r Ms (nI t) (nI b) x y = (nI 2, none) := by
  unfold setX; rw [rg_t ht, bl_t hn hb, h]; rfl
theorem set_e {t b : Nat} {x y : Int32} (hn : p + q + r ≤ 5) (ht : t < 8) (hb : b < 2 ^ (p + q + r)) (hx : inB x (-100000000) (nI 100000000) = true) (hy : inB y (nI 1) (nI 10000) = true) : setX p q r Ms (nI t) (nI b) x y = optC (nI 3) (fitS (Ms t 0 * y.toInt64) (setR b x.toInt64 y.toInt64 (Ms t))) := by
  unfold setX; rw [rg_t ht, bl_t hn hb, sml_B, hx, hy, rg_n ht, clp (by have := pow5 hn; omega)]; rfl
theorem set_3 {t b : Nat} {x y : Int32} (hn : p + q + r ≤ 5) (ht : t < 8) (hb : b < 2 ^ (p + q + r)) (hx : inB x (-100000000) (nI 100000000) = true) (hy : inB y (nI 1) (nI 10000) = true) (e : fitS (Ms t 0 * y.toInt64) (setR b x.toInt64 y.toInt64 (Ms t)) = none) : setX p q r Ms (nI t) (nI b) x y = (nI 3, none) := by
  rw [set_e hn ht hb hx hy, e]; rfl
theorem set_ok {t b : Nat} {x y : Int32} {M : MV} (hn : p + q + r ≤ 5) (ht : t < 8) (hb : b < 2 ^ (p + q + r)) (hx : inB x (-100000000) (nI 100000000) = true) (hy : inB y (nI 1) (nI 10000) = true) (e : fitS (Ms t 0 * y.toInt64) (setR b x.toInt64 y.toInt64 (Ms t)) = some M) : setX p q r Ms (nI t) (nI b) x y = (nI 0, some M) := by
  rw [set_e hn ht hb hx hy, e]; rfl
theorem set_u {y : Int32} (hy : inB y (nI 1) (nI 10000) = true) {M : MV} (sM : MSm M) : 0 < (M 0 * y.toInt64).toInt := by
  have h := inB_i hy
  have h1 : (nI 1).toInt = 1 := rfl
  have h2 : (nI 10000).toInt = 10000 := rfl
  exact mul_pos8 ⟨sM.1, sM.2.1⟩ (by rw [i2l_toInt]; omega)
/-! powers -/
theorem of_num : ofS 0 1 1 = some (numM 1) := by
  rw [of_bas (by decide)]
  congr 1
  funext i
  show (if i = 0 then (1 : Int64) else if i - 1 = 0 then 1 else 0) = if i = 0 then 1 else if i = 1 then 1 else 0
  by_cases h : i = 0
  · rw [if_pos h, if_pos h]
  · rw [if_neg h, if_neg h]
    by_cases h1 : i = 1
    · rw [if_pos (by omega), if_pos h1]
    · rw [if_neg (by omega), if_neg h1]
theorem pow_s {M P T : MV} {k : Nat} (h : powS p q r M k = some P) (e : mulS 2 p q r P M = some T) : powS p q r M (k + 1) = some T := by
  show (match powS p q r M k with | none => none | some P => mulS 2 p q r P M) = _
  rw [h]; exact e
theorem pow_n {M : MV} {k : Nat} : ∀ {d : Nat}, powS p q r M k = none → powS p q r M (k + d) = none
  | 0, h => h
  | d + 1, h => by
    show (match powS p q r M (k + d) with | none => none | some P => mulS 2 p q r P M) = none
    rw [pow_n h]
theorem pow_f {M P : MV} {k n : Nat} (h : powS p q r M k = some P) (hk : k < n) (e : mulS 2 p q r P M = none) : powS p q r M n = none := by
  have h1 : powS p q r M (k + 1) = none := by
    show (match powS p q r M k with | none => none | some P => mulS 2 p q r P M) = none
    rw [h]; exact e
  have := pow_n (d := n - (k + 1)) h1
  rw [show k + 1 + (n - (k + 1)) = n by omega] at this
  exact this
theorem pow_1 {t a x : Int32} (h : (rgB t && rgB a) = false) : powX p q r Ms t a x = (nI 1, none) := if_pos h
theorem pow_2 {t a : Nat} {x : Int32} (ht : t < 8) (ha : a < 8) (h : inB x (nI 0) (nI 20) = false) : powX p q r Ms (nI t) (nI a) x = (nI 2, none) := by
  unfold powX; rw [rg_t ht, rg_t ha, h]; rfl
theorem pow_e {t a x : Nat} (ht : t < 8) (ha : a < 8) (hx : x ≤ 20) : powX p q r Ms (nI t) (nI a) (nI x) = optC (nI 3) (powS p q r (Ms a) x) := by
  unfold powX; rw [rg_t ht, rg_t ha, inB_r (by decide) hx, rg_n ha, clp (by omega)]; rfl
theorem pow_3 {t a x : Nat} (ht : t < 8) (ha : a < 8) (hx : x ≤ 20) (e : powS p q r (Ms a) x = none) : powX p q r Ms (nI t) (nI a) (nI x) = (nI 3, none) := by
  rw [pow_e ht ha hx, e]; rfl
theorem pow_ok {t a x : Nat} {M : MV} (ht : t < 8) (ha : a < 8) (hx : x ≤ 20) (e : powS p q r (Ms a) x = some M) : powX p q r Ms (nI t) (nI a) (nI x) = (nI 0, some M) := by
  rw [pow_e ht ha hx, e]; rfl
/-! projections -/
theorem inv_of {M I : MV} (h : oneS 9 p q r M = (nI 0, some I)) : ∃ S, sqS p q r M = some S ∧ isNumB S 32 = true ∧ scaS (S 0) (S 1) (revS p q r M) = some I := by
  have h : invS p q r M = (nI 0, some I) := h
  unfold invS at h
  cases e : sqS p q r M with
  | none => rw [e] at h; cases h
  | some S =>
    rw [e] at h
    dsimp only at h
    split at h
    · cases h
    · rename_i hb
      rw [Bool.not_eq_false] at hb
      cases e2 : scaS (S 0) (S 1) (revS p q r M) with
      | none => rw [e2] at h; cases h
      | some T => rw [e2] at h; cases h; exact ⟨S, rfl, hb, e2⟩
theorem inv_i {M : MV} (h : oneS 9 p q r M = (nI 4, none)) : ∃ S, sqS p q r M = some S ∧ isNumB S 32 = false := by
  have h : invS p q r M = (nI 4, none) := h
  unfold invS at h
  cases e : sqS p q r M with
  | none => rw [e] at h; have h2 : (nI 3 : Int32) = nI 4 := congrArg Prod.fst h; exact absurd h2 (by decide)
  | some S =>
    rw [e] at h
    dsimp only at h
    split at h
    · rename_i hb; exact ⟨S, rfl, hb⟩
    · cases e2 : scaS (S 0) (S 1) (revS p q r M) with
      | none => rw [e2] at h; have h2 : (nI 3 : Int32) = nI 4 := congrArg Prod.fst h; exact absurd h2 (by decide)
      | some T => rw [e2] at h; have h2 : (nI 0 : Int32) = nI 4 := congrArg Prod.fst h; exact absurd h2 (by decide)
theorem inv_x {M : MV} (h : oneS 9 p q r M = (nI 3, none)) : sqS p q r M = none ∨ ∃ S, sqS p q r M = some S ∧ isNumB S 32 = true ∧ scaS (S 0) (S 1) (revS p q r M) = none := by
  have h : invS p q r M = (nI 3, none) := h
  unfold invS at h
  cases e : sqS p q r M with
  | none => exact Or.inl rfl
  | some S =>
    rw [e] at h
    dsimp only at h
    split at h
    · have h2 : (nI 4 : Int32) = nI 3 := congrArg Prod.fst h
      exact absurd h2 (by decide)
    · rename_i hb
      rw [Bool.not_eq_false] at hb
      cases e2 : scaS (S 0) (S 1) (revS p q r M) with
      | none => exact Or.inr ⟨S, rfl, hb, e2⟩
      | some T => rw [e2] at h; have h2 : (nI 0 : Int32) = nI 3 := congrArg Prod.fst h; exact absurd h2 (by decide)
theorem prj_1 {t a b : Int32} (h : (rgB t && rgB a && rgB b) = false) : prjX p q r Ms t a b = (nI 1, none) := if_pos h
section PJ
variable {t a b : Nat} {I L C : MV}
theorem prj_i (ht : t < 8) (ha : a < 8) (hb : b < 8) (h : oneS 9 p q r (Ms b) = (nI 4, none)) : prjX p q r Ms (nI t) (nI a) (nI b) = (nI 3, none) := by
  obtain ⟨S, e1, e2⟩ := inv_i h
  unfold prjX; rw [rg_t ht, rg_t ha, rg_t hb, rg_n ha, rg_n hb, e1]
  dsimp only
  rw [e2]; rfl
theorem prj_x0 (ht : t < 8) (ha : a < 8) (hb : b < 8) (h : oneS 9 p q r (Ms b) = (nI 3, none)) : prjX p q r Ms (nI t) (nI a) (nI b) = (nI 2, none) := by
  unfold prjX; rw [rg_t ht, rg_t ha, rg_t hb, rg_n ha, rg_n hb]
  rcases inv_x h with e | ⟨S, e1, e2, e3⟩
  · rw [e]; rfl
  · rw [e1]; dsimp only; rw [e2, e3]; rfl
theorem prj_x1 (ht : t < 8) (ha : a < 8) (hb : b < 8) (h : oneS 9 p q r (Ms b) = (nI 0, some I)) (e4 : mulS (2 + 2) p q r (Ms a) (Ms b) = none) : prjX p q r Ms (nI t) (nI a) (nI b) = (nI 2, none) := by
  obtain ⟨S, e1, e2, e3⟩ := inv_of h
  unfold prjX; rw [rg_t ht, rg_t ha, rg_t hb, rg_n ha, rg_n hb, e1]
  dsimp only
  rw [e2, e3, show mulS 4 p q r (Ms a) (Ms b) = none from e4]; rfl
theorem prj_e (ht : t < 8) (ha : a < 8) (hb : b < 8) (h : oneS 9 p q r (Ms b) = (nI 0, some I)) (e4 : mulS (2 + 2) p q r (Ms a) (Ms b) = some L) : prjX p q r Ms (nI t) (nI a) (nI b) = optC (nI 2) (mulS 2 p q r L I) := by
  obtain ⟨S, e1, e2, e3⟩ := inv_of h
  unfold prjX; rw [rg_t ht, rg_t ha, rg_t hb, rg_n ha, rg_n hb, e1]
  dsimp only
  rw [e2, e3, show mulS 4 p q r (Ms a) (Ms b) = some L from e4]; rfl
theorem prj_x2 (ht : t < 8) (ha : a < 8) (hb : b < 8) (h : oneS 9 p q r (Ms b) = (nI 0, some I)) (e4 : mulS (2 + 2) p q r (Ms a) (Ms b) = some L) (e5 : mulS 2 p q r L I = none) : prjX p q r Ms (nI t) (nI a) (nI b) = (nI 2, none) := by
  rw [prj_e ht ha hb h e4, e5]; rfl
theorem prj_ok (ht : t < 8) (ha : a < 8) (hb : b < 8) (h : oneS 9 p q r (Ms b) = (nI 0, some I)) (e4 : mulS (2 + 2) p q r (Ms a) (Ms b) = some L) (e5 : mulS 2 p q r L I = some C) : prjX p q r Ms (nI t) (nI a) (nI b) = (nI 0, some C) := by
  rw [prj_e ht ha hb h e4, e5]; rfl
end PJ
/-! versors -/
section SN
variable {M N P T : MV}
theorem snd_s0 (c : grS M &&& 42 = 0) (e1 : mulS 2 p q r M N = some P) (e2 : mulS 2 p q r P (trnS 0 p q r M) = some T) : sndS p q r M N = some T := by
  unfold sndS; rw [if_pos c, e1]; exact e2
theorem snd_s1 (c : ¬ grS M &&& 42 = 0) (e1 : mulS 2 p q r M (trnS 1 p q r N) = some P) (e2 : mulS 2 p q r P (trnS 0 p q r M) = some T) : sndS p q r M N = some T := by
  unfold sndS; rw [if_neg c, e1]; exact e2
theorem snd_a0 (c : grS M &&& 42 = 0) (e1 : mulS 2 p q r M N = none) : sndS p q r M N = none := by
  unfold sndS; rw [if_pos c, e1]
theorem snd_a1 (c : ¬ grS M &&& 42 = 0) (e1 : mulS 2 p q r M (trnS 1 p q r N) = none) : sndS p q r M N = none := by
  unfold sndS; rw [if_neg c, e1]
theorem snd_b0 (c : grS M &&& 42 = 0) (e1 : mulS 2 p q r M N = some P) (e2 : mulS 2 p q r P (trnS 0 p q r M) = none) : sndS p q r M N = none := by
  unfold sndS; rw [if_pos c, e1]; exact e2
theorem snd_b1 (c : ¬ grS M &&& 42 = 0) (e1 : mulS 2 p q r M (trnS 1 p q r N) = some P) (e2 : mulS 2 p q r P (trnS 0 p q r M) = none) : sndS p q r M N = none := by
  unfold sndS; rw [if_neg c, e1]; exact e2
end SN
theorem mix_t {b : Bool} (h : (!b) = false) : b = true := by cases b <;> first | rfl | cases h
theorem mix_f {b : Bool} (h : (!b) = true) : b = false := by cases b <;> first | rfl | cases h
theorem app_1 {t a b : Int32} (h : (rgB t && rgB a && rgB b) = false) : appX p q r Ms t a b = (nI 1, none) := if_pos h
section AP
variable {t a b : Nat} {S T C : MV}
theorem app_i (ht : t < 8) (ha : a < 8) (hb : b < 8) (h : mixB (Ms a) = true) : appX p q r Ms (nI t) (nI a) (nI b) = (nI 2, none) := by
  unfold appX; rw [rg_t ht, rg_t ha, rg_t hb, rg_n ha, h]; rfl
theorem app_e (ht : t < 8) (ha : a < 8) (hb : b < 8) (h : mixB (Ms a) = false) (e1 : mulS 2 p q r (Ms a) (trnS 0 p q r (Ms a)) = some S) : appX p q r Ms (nI t) (nI a) (nI b) = if isNumB S 32 = false then (nI 4, none) else match sndS p q r (Ms a) (Ms b) with
  | none => (nI 3, none)
  | some T => optC (nI 3) (scaS (S 0) (S 1) T) := by
  unfold appX; rw [rg_t ht, rg_t ha, rg_t hb, rg_n ha, rg_n hb, h, show sqS p q r (Ms a) = some S from e1]; rfl
theorem app_x0 (ht : t < 8) (ha : a < 8) (hb : b < 8) (h : mixB (Ms a) = false) (e1 : mulS 2 p q r (Ms a) (trnS 0 p q r (Ms a)) = none) : appX p q r Ms (nI t) (nI a) (nI b) = (nI 3, none) := by
  unfold appX; rw [rg_t ht, rg_t ha, rg_t hb, rg_n ha, rg_n hb, h, show sqS p q r (Ms a) = none from e1]; rfl
theorem app_u (ht : t < 8) (ha : a < 8) (hb : b < 8) (h : mixB (Ms a) = false) (e1 : mulS 2 p q r (Ms a) (trnS 0 p q r (Ms a)) = some S) (h2 : isNumB S 32 = false) : appX p q r Ms (nI t) (nI a) (nI b) = (nI 4, none) := by
  rw [app_e ht ha hb h e1, if_pos h2]
theorem app_x1 (ht : t < 8) (ha : a < 8) (hb : b < 8) (h : mixB (Ms a) = false) (e1 : mulS 2 p q r (Ms a) (trnS 0 p q r (Ms a)) = some S) (h2 : isNumB S 32 = true) (e2 : sndS p q r (Ms a) (Ms b) = none) : appX p q r Ms (nI t) (nI a) (nI b) = (nI 3, none) := by
  rw [app_e ht ha hb h e1, h2, e2]; rfl
theorem app_x2 (ht : t < 8) (ha : a < 8) (hb : b < 8) (h : mixB (Ms a) = false) (e1 : mulS 2 p q r (Ms a) (trnS 0 p q r (Ms a)) = some S) (h2 : isNumB S 32 = true) (e2 : sndS p q r (Ms a) (Ms b) = some T) (e3 : scaS (S 0) (S 1) T = none) : appX p q r Ms (nI t) (nI a) (nI b) = (nI 3, none) := by
  rw [app_e ht ha hb h e1, h2, e2]; show optC (nI 3) (scaS (S 0) (S 1) T) = _; rw [e3]; rfl
theorem app_ok (ht : t < 8) (ha : a < 8) (hb : b < 8) (h : mixB (Ms a) = false) (e1 : mulS 2 p q r (Ms a) (trnS 0 p q r (Ms a)) = some S) (h2 : isNumB S 32 = true) (e2 : sndS p q r (Ms a) (Ms b) = some T) (e3 : scaS (S 0) (S 1) T = some C) : appX p q r Ms (nI t) (nI a) (nI b) = (nI 0, some C) := by
  rw [app_e ht ha hb h e1, h2, e2]; show optC (nI 3) (scaS (S 0) (S 1) T) = _; rw [e3]; rfl
end AP
end AX
theorem nc_UnsupportedOperationException_Unfit : (Cond.not (.castable "java/lang/UnsupportedOperationException" "BladeAlgebra$Unfit")) ∈ flatC (Jvm.Cond.and given_1 narrow_1) := by decide +kernel
set_option maxHeartbeats 4000000 in
theorem x1_copy {l : Launch} {dC : Nat → ClassId} {dI : Nat → Nat → Nat} {dA : Nat → ClassId} {s0 : State} {b0 : Addr} (Z : Z0 l dC dI dA s0 b0) (A : Nat → Prop) (sz : Nat) (hA : ∀ q : Nat, sz ≤ q → A q) {σ : Nat → Nat} (Y : SS (dC, dI) dA σ s0) (xa : Nat → Nat) (tl : Nat) (ec ep : Int32) (ga sg : Nat) (sr : Nat → Nat) (p0 q0 r0 : Nat) (rm rr : Nat → Nat) (Ms : Nat → MV) (t a : Int32) (sR : ∀ k, k < 8 → MSm (Ms k)) (pR : ∀ k, k < 8 → MSp (2 ^ (p0 + q0 + r0)) (Ms k)) (hAf : ∀ q, A q → q = xa 7 ∨ sz ≤ q) : vx_Met l yX1_copy (ws_ yX1_copy cX1_copy 3 none) ({ frames := 8, cells := 5, slots := 30, locals := 480 } : Room) (gP [.ref (xa 0), .int t, .int a] s0 A (fun H => H.size = sz ∧ va_P (dC, dI) vwCl [((xa 7), .inl (dA 4, 8, .inr (.inr (.inr (.inr (fun k => some (rm k)))))))] H ∧ va_D A [((xa 7), .inl (dA 4, 8, .inr (.inr (.inr (.inr (fun k => some (rm k)))))))] ∧ RO A (dC, dI) [((xa 0), .inr (3, xFs xa tl ec ep)), ((xa 3), .inr (4, [.ref ga, .ref (xa 7)]))] H ∧ AG A (dC, dI) dA ga sg sr p0 q0 r0 H ∧ RG A (dC, dI) dA rm rr Ms H)) (va_Qv (S := Nat × Nat × MV) (fun u => cpyX Ms t a = (nI 0, some u.2.2)) (B1 (dC, dI) A (fun u => [(xa 7, .inl (dA 4, 8, .inr (.inr (.inr (.inr (va_up (fun k => some (rm k)) (rg t) (some u.1)))))))]) (fun u H => NM (dC, dI) dA σ rm rr Ms sz u H)) A) (vx_X (S := Unit) (fun _ => True) (fun _ E _ t9 => ((E = "java/lang/IndexOutOfBoundsException" ∧ cpyX Ms t a = (nI 1, none))) ∧ va_P (dC, dI) vwCl [((xa 7), .inl (dA 4, 8, .inr (.inr (.inr (.inr (fun k => some (rm k)))))))] t9.heap) A) 5 30 A := by
  refine vx_ofW (cc := cX1_copy) (maxL := 3) (ret := none) (by decide) rfl ?_
  intro p e s m args below meth c s₁ B hml hnoH hv
  obtain ⟨hav, hG, hsz, hP, hD, hR0, hAG, hRG⟩ := hv
  have hx := B.exec
  have hb := B.bytes
  have hr := B.returns
  have hts := atoms_spec (ws := (ws_ yX1_copy cX1_copy 3 none)) B.pre
  have hts : ∀ w ∈ lw_all, w.before _ s = true := fun w h => hts w (List.mem_cons_of_mem _ h)
  have hown : s.vm.findClass RX1 = some m.cls := findClass_of_methodNamed B.named
  have hlocks := B.notSynchronized
  have hK := hG.K Z
  subst hsz
  have hS : va_S A s.heap s.heap [] := va_S.rf
  have hl := lv_entry ([.ref (xa 0), .int t, .int a]) (n := 3) (Nat.le_of_ble_eq_true rfl)
  rw [show entryFrame m args 3 = entryFrame m ([.ref (xa 0), .int t, .int a] : List Value).toArray 3 from by rw [hav], lg_entry_eq]
  generalize (lg_sl ([.ref (xa 0), .int t, .int a]) ++ List.replicate (3 - (lg_sl ([.ref (xa 0), .int t, .int a])).length) Slot.unset).toArray = ls at hl ⊢
  have hl : lv_has ls 3 [(0, .ref (xa 0)), (1, .int t), (2, .int a)] := hl
  generalize hQe : vx_MQ below _ _ _ s _ _ _ = Q
  change W p l e ({ frames := 8, cells := 5, slots := 30, locals := 480 } : Room) s m args below meth c s.heap [] 0 0 Q (F0 m 0 ls [])
  have hn := hAG.1
  have h5 := pow5 hn
  have hR1 := hAG.2.1
  refine lv_iconst (v := nI 2) hx hb dX1_copy_0 (by decide) ?_
  refine a_newa (D := (dC, dI)) (atype := .int) (N' := 2) (a0 := (2, .inl (fun _ => 0))) hx hb (hts _ q230) rfl hK hP hD hS hA 0 rfl (fun _ => ra_int) (fun _ => rfl) (by decide) (by decide) (by decide) (by first | decide | omega) (by first | decide | omega) dX1_copy_1 (fun na_1 H locs hP hD hS => ?_)
  have hP : va_P (dC, dI) vwCl [((xa 7), .inl (dA 4, 8, .inr (.inr (.inr (.inr (fun k => some (rm k))))))), (na_1, .inl (dA 0, 2, .inl (fun _ => 0)))] H := hP
  have hD : va_D A [((xa 7), .inl (dA 4, 8, .inr (.inr (.inr (.inr (fun k => some (rm k))))))), (na_1, .inl (dA 0, 2, .inl (fun _ => 0)))] := hD
  refine lv_dup hx hb dX1_copy_3 rfl ?_
  refine lv_iconst (v := nI 0) hx hb dX1_copy_4 (by decide) ?_
  refine lv_iload_n hx hb dX1_copy_5 rfl (lv_at hl 1 rfl) ?_
  refine a_iast hx hb hK hP hD hS 1 0 rfl rfl (by omega) (by omega) dX1_copy_6 (fun H locs hP hD hS => ?_)
  have hP : va_P (dC, dI) vwCl [((xa 7), .inl (dA 4, 8, .inr (.inr (.inr (.inr (fun k => some (rm k))))))), (na_1, .inl (dA 0, 2, .inl (upd (fun _ => 0) 0 t)))] H := hP
  have hD : va_D A [((xa 7), .inl (dA 4, 8, .inr (.inr (.inr (.inr (fun k => some (rm k))))))), (na_1, .inl (dA 0, 2, .inl (upd (fun _ => 0) 0 t)))] := hD
  refine lv_dup hx hb dX1_copy_7 rfl ?_
  refine lv_iconst (v := nI 1) hx hb dX1_copy_8 (by decide) ?_
  refine lv_iload_n hx hb dX1_copy_9 rfl (lv_at hl 2 rfl) ?_
  refine a_iast hx hb hK hP hD hS 1 0 rfl rfl (by omega) (by omega) dX1_copy_10 (fun H locs hP hD hS => ?_)
  have hP : va_P (dC, dI) vwCl [((xa 7), .inl (dA 4, 8, .inr (.inr (.inr (.inr (fun k => some (rm k))))))), (na_1, .inl (dA 0, 2, .inl (upd (upd (fun _ => 0) 0 t) 1 a)))] H := hP
  have hD : va_D A [((xa 7), .inl (dA 4, 8, .inr (.inr (.inr (.inr (fun k => some (rm k))))))), (na_1, .inl (dA 0, 2, .inl (upd (upd (fun _ => 0) 0 t) 1 a)))] := hD
  have hF9 := va_free (wc := []) hD hS (fun q h => hA q h) [] rfl
  refine x_v (wc := []) (wr := [((xa 7), .inl (dA 4, 8, .inr (.inr (.inr (.inr (fun k => some (rm k))))))), (na_1, .inl (dA 0, 2, .inl (upd (upd (fun _ => 0) 0 t) 1 a)))]) (vx_runS (As := [.ref na_1]) (rest := []) ⟨hx, hb, hml, hown, hts⟩ (x1_registers Z (va_A [] H.size) H.size (fun q h => Or.inr h) Y na_1 2 (upd (upd (fun _ => 0) 0 t) 1 a) (by decide)) (va_cwS 1 hts (lw_S q469 q470 q96 q471) rfl rfl rfl (by decide +kernel) ⟨Nat.le_of_ble_eq_true rfl, Nat.le_of_ble_eq_true rfl⟩) (gP_S hG hS (fun q _ h => hF9 q h) ⟨rfl, (RO.beside (wr := [(na_1, .inl (dA 0, 2, .inl (upd (upd (fun _ => 0) 0 t) 1 a)))]) hP hD [] [1] rfl rfl (by decide))⟩) rfl rfl hl.1 rfl (lv_room (Nat.le_of_ble_eq_true rfl)) dX1_copy_11 ⟨by first | decide | omega | (show _ ≤ (5 : Nat); omega), by first | decide | omega | (show _ ≤ (30 : Nat); omega)⟩) hP hD hS hA [] [0, 1] rfl rfl (by decide) (by decide) (fun E ce q9 u9 t9 H locs ht9 hp9 hb9 hz hP hS h1 h2 h3 => ?_) (fun u9 H locs hq hX hz hk hP hD hS => ?_)
  · have hD := hD.sub (ws' := [((xa 7), .inl (dA 4, 8, .inr (.inr (.inr (.inr (fun k => some (rm k))))))), (na_1, .inl (dA 0, 2, .inl (upd (upd (fun _ => 0) 0 t) 1 a)))]) [0, 1] (by decide) rfl
    have hP : va_P (dC, dI) vwCl [((xa 7), .inl (dA 4, 8, .inr (.inr (.inr (.inr (fun k => some (rm k))))))), (na_1, .inl (dA 0, 2, .inl (upd (upd (fun _ => 0) 0 t) 1 a)))] H := hP
    have hD : va_D A [((xa 7), .inl (dA 4, 8, .inr (.inr (.inr (.inr (fun k => some (rm k))))))), (na_1, .inl (dA 0, 2, .inl (upd (upd (fun _ => 0) 0 t) 1 a)))] := hD
    subst hb9
    subst hQe
    exact vx_out (fun x h => (hnoH x h).elim) hlocks h1 h2 h3 (fun t10 e10 _ => ⟨(), trivial, (⟨⟨rfl, cpy_1 (rgs2.symm.trans hp9)⟩, by rw [e10]; exact hP.sub (ws' := [((xa 7), .inl (dA 4, 8, .inr (.inr (.inr (.inr (fun k => some (rm k)))))))]) [0] rfl⟩ : (_ ∧ _)), hS.F e10⟩) hS.2.2 (by first | decide | omega) (by first | decide | omega)
  have hrg : (rgB t && rgB a) = true := rgs2.symm.trans hq
  clear hq
  have hP : va_P (dC, dI) vwCl [((xa 7), .inl (dA 4, 8, .inr (.inr (.inr (.inr (fun k => some (rm k))))))), (na_1, .inl (dA 0, 2, .inl (upd (upd (fun _ => 0) 0 t) 1 a)))] H := hP
  have hD : va_D A [((xa 7), .inl (dA 4, 8, .inr (.inr (.inr (.inr (fun k => some (rm k))))))), (na_1, .inl (dA 0, 2, .inl (upd (upd (fun _ => 0) 0 t) 1 a)))] := hD
  have hP0 := hP.sub (ws' := [((xa 7), .inl (dA 4, 8, .inr (.inr (.inr (.inr (fun k => some (rm k)))))))]) [0] rfl
  have hD0 := hD.sub (ws' := [((xa 7), .inl (dA 4, 8, .inr (.inr (.inr (.inr (fun k => some (rm k)))))))]) [0] (by decide) rfl
  have h8jt := inB_nat (by decide) (show inB t (nI 0) (nI 7) = true from (Bool.and_eq_true_iff.mp hrg).1)
  have h8ja := inB_nat (by decide) (show inB a (nI 0) (nI 7) = true from (Bool.and_eq_true_iff.mp hrg).2)
  obtain ⟨jt, h9jt, e8jt⟩ := h8jt
  obtain ⟨ja, h9ja, e8ja⟩ := h8ja
  have h7jt : jt < 8 := by omega
  subst e8jt
  have h7ja : ja < 8 := by omega
  subst e8ja
  have hP := hP0
  have hD := hD0
  refine lv_aload_n hx hb dX1_copy_14 rfl (lv_at hl 0 rfl) ?_
  refine va_get (D := (dC, dI)) (ci := 3) (v := .ref (xa 3)) (C := RX1) (T := TX1) (N := 9) hx hb hts in_X1 hown hK (hR0.up hS) 0 rfl rfl 2 (by decide) (hts _ q286) (fun _ h9 => h9) rfl dX1_copy_15 ?_
  refine va_getN (D := (dC, dI)) (ci := 4) (v := .ref (xa 7)) (C := RX4) (T := TX4) (N := 2) hx hb hts in_X4 hown hK (hR0.up hS) 1 rfl rfl 1 (by decide) (((va_Nw.warmF hG.1 (va_Nw.of rfl (Z.2.1 _ q243)))).use rfl) (fun _ h9 => h9) rfl dX1_copy_18 ?_
  refine lv_iload_n hx hb dX1_copy_21 rfl (lv_at hl 1 rfl) ?_
  refine lv_aload_n hx hb dX1_copy_22 rfl (lv_at hl 0 rfl) ?_
  refine va_get (D := (dC, dI)) (ci := 3) (v := .ref (xa 3)) (C := RX1) (T := TX1) (N := 9) hx hb hts in_X1 hown hK (hR0.up hS) 0 rfl rfl 2 (by decide) (hts _ q286) (fun _ h9 => h9) rfl dX1_copy_23 ?_
  refine va_getN (D := (dC, dI)) (ci := 4) (v := .ref (xa 7)) (C := RX4) (T := TX4) (N := 2) hx hb hts in_X4 hown hK (hR0.up hS) 1 rfl rfl 1 (by decide) (((va_Nw.warmF hG.1 (va_Nw.of rfl (Z.2.1 _ q243)))).use rfl) (fun _ h9 => h9) rfl dX1_copy_26 ?_
  refine lv_iload_n hx hb dX1_copy_29 rfl (lv_at hl 2 rfl) ?_
  refine a_aldq hx hb hK hP 0 4 rfl rfl (by omega) (by decide) dX1_copy_30 ?_
  refine e_v (y := .ref (rm ja)) (rfl) ?_
  have hR2 := hRG ja (by omega)
  refine a_astM hx hb hK hP hD hS 0 4 rfl rfl (any_of hK (hR2.up hS) 0 rfl rfl) (by omega) (by decide) dX1_copy_31 (fun H locs hP hD hS => ?_)
  have hP : va_P (dC, dI) vwCl [((xa 7), .inl (dA 4, 8, .inr (.inr (.inr (.inr (va_up (fun k => some (rm k)) jt (some (rm ja))))))))] H := hP
  have hD : va_D A [((xa 7), .inl (dA 4, 8, .inr (.inr (.inr (.inr (va_up (fun k => some (rm k)) jt (some (rm ja))))))))] := hD
  have e8 : rg (nI jt) = jt := rg_n (by omega)
  subst hQe
  refine vx_ret ?_
  refine W.widen (k := 5) (n := 30) (by first | decide | omega) (by first | decide | omega) ?_
  exact W.vret hx hb hr (fun tz ht hW => ⟨⟨((rm ja), (rr ja), (Ms ja)), rfl, cpy_ok h7jt h7ja, B1_at ht (by rw [e8]; exact hP.sub [0] rfl) (by rw [e8]; exact hD.sub [0] (by decide) rfl) (⟨(hRG ja (by omega)).up hS, Or.inr (Or.inl ⟨ja, by omega, rfl⟩)⟩)⟩, hS.F ht⟩) hS.2.2 dX1_copy_32
set_option maxHeartbeats 4000000 in
theorem x1_setCoefficient {l : Launch} {dC : Nat → ClassId} {dI : Nat → Nat → Nat} {dA : Nat → ClassId} {s0 : State} {b0 : Addr} (Z : Z0 l dC dI dA s0 b0) (A : Nat → Prop) (sz : Nat) (hA : ∀ q : Nat, sz ≤ q → A q) {σ : Nat → Nat} (Y : SS (dC, dI) dA σ s0) (xa : Nat → Nat) (tl : Nat) (ec ep : Int32) (ga sg : Nat) (sr : Nat → Nat) (p0 q0 r0 : Nat) (rm rr : Nat → Nat) (Ms : Nat → MV) (t b x9 y9 : Int32) (sR : ∀ k, k < 8 → MSm (Ms k)) (pR : ∀ k, k < 8 → MSp (2 ^ (p0 + q0 + r0)) (Ms k)) (hAf : ∀ q, A q → q = xa 7 ∨ sz ≤ q) : vx_Met l yX1_setCoefficient (wsW_ yX1_setCoefficient cX1_setCoefficient 6 none [((50 : Nat), (77 : Nat), (80 : Nat), (179 : Nat))]) ({ frames := 9, cells := 9, slots := 100, locals := 540 } : Room) (gP [.ref (xa 0), .int t, .int b, .int x9, .int y9] s0 A (fun H => H.size = sz ∧ va_P (dC, dI) vwCl [((xa 7), .inl (dA 4, 8, .inr (.inr (.inr (.inr (fun k => some (rm k)))))))] H ∧ va_D A [((xa 7), .inl (dA 4, 8, .inr (.inr (.inr (.inr (fun k => some (rm k)))))))] ∧ RO A (dC, dI) [((xa 0), .inr (3, xFs xa tl ec ep)), ((xa 3), .inr (4, [.ref ga, .ref (xa 7)]))] H ∧ AG A (dC, dI) dA ga sg sr p0 q0 r0 H ∧ RG A (dC, dI) dA rm rr Ms H)) (va_Qv (S := Nat × Nat × MV) (fun u => setX p0 q0 r0 Ms t b x9 y9 = (nI 0, some u.2.2)) (B1 (dC, dI) A (fun u => [(xa 7, .inl (dA 4, 8, .inr (.inr (.inr (.inr (va_up (fun k => some (rm k)) (rg t) (some u.1)))))))]) (fun u H => NM (dC, dI) dA σ rm rr Ms sz u H)) A) (vx_X (S := Unit) (fun _ => True) (fun _ E _ t9 => ((E = "java/lang/IndexOutOfBoundsException" ∧ setX p0 q0 r0 Ms t b x9 y9 = (nI 1, none)) ∨ (E = "java/lang/IllegalArgumentException" ∧ setX p0 q0 r0 Ms t b x9 y9 = (nI 2, none)) ∨ (E = "java/lang/ArithmeticException" ∧ setX p0 q0 r0 Ms t b x9 y9 = (nI 3, none))) ∧ va_P (dC, dI) vwCl [((xa 7), .inl (dA 4, 8, .inr (.inr (.inr (.inr (fun k => some (rm k)))))))] t9.heap) A) 9 100 A := by
  refine vx_ofWH (cc := cX1_setCoefficient) (maxL := 6) (ret := none) (by decide) rfl ?_
  intro p e s m args below meth c s₁ B hml hv
  obtain ⟨hav, hG, hsz, hP, hD, hR0, hAG, hRG⟩ := hv
  have hx := B.exec
  have hb := B.bytes
  have hr := B.returns
  have hts := atoms_spec (ws := (wsW_ yX1_setCoefficient cX1_setCoefficient 6 none [((50 : Nat), (77 : Nat), (80 : Nat), (179 : Nat))])) B.pre
  have hxt : c.exceptionTable.toList = [⟨50, 77, 80, 179⟩] := vx_table (x := yX1_setCoefficient) (y := yX1_setCoefficient) B (hts _ List.mem_cons_self)
  have hts : ∀ w ∈ lw_all, w.before _ s = true := fun w h => hts w (List.mem_cons_of_mem _ h)
  have hown : s.vm.findClass RX1 = some m.cls := findClass_of_methodNamed B.named
  have hlocks := B.notSynchronized
  have hK := hG.K Z
  subst hsz
  have hS : va_S A s.heap s.heap [] := va_S.rf
  have hl := lv_entry ([.ref (xa 0), .int t, .int b, .int x9, .int y9]) (n := 6) (Nat.le_of_ble_eq_true rfl)
  rw [show entryFrame m args 6 = entryFrame m ([.ref (xa 0), .int t, .int b, .int x9, .int y9] : List Value).toArray 6 from by rw [hav], lg_entry_eq]
  generalize (lg_sl ([.ref (xa 0), .int t, .int b, .int x9, .int y9]) ++ List.replicate (6 - (lg_sl ([.ref (xa 0), .int t, .int b, .int x9, .int y9])).length) Slot.unset).toArray = ls at hl ⊢
  have hl : lv_has ls 6 [(0, .ref (xa 0)), (1, .int t), (2, .int b), (3, .int x9), (4, .int y9)] := hl
  generalize hQe : vx_MQ below _ _ _ s _ _ _ = Q
  change W p l e ({ frames := 9, cells := 9, slots := 100, locals := 540 } : Room) s m args below meth c s.heap [] 0 0 Q (F0 m 0 ls [])
  have hn := hAG.1
  have h5 := pow5 hn
  have hR1 := hAG.2.1
  refine lv_iconst (v := nI 1) hx hb dX1_setCoefficient_0 (by decide) ?_
  refine a_newa (D := (dC, dI)) (atype := .int) (N' := 1) (a0 := (1, .inl (fun _ => 0))) hx hb (hts _ q230) rfl hK hP hD hS hA 0 rfl (fun _ => ra_int) (fun _ => rfl) (by decide) (by decide) (by decide) (by first | decide | omega) (by first | decide | omega) dX1_setCoefficient_1 (fun na_1 H locs hP hD hS => ?_)
  have hP : va_P (dC, dI) vwCl [((xa 7), .inl (dA 4, 8, .inr (.inr (.inr (.inr (fun k => some (rm k))))))), (na_1, .inl (dA 0, 1, .inl (fun _ => 0)))] H := hP
  have hD : va_D A [((xa 7), .inl (dA 4, 8, .inr (.inr (.inr (.inr (fun k => some (rm k))))))), (na_1, .inl (dA 0, 1, .inl (fun _ => 0)))] := hD
  refine lv_dup hx hb dX1_setCoefficient_3 rfl ?_
  refine lv_iconst (v := nI 0) hx hb dX1_setCoefficient_4 (by decide) ?_
  refine lv_iload_n hx hb dX1_setCoefficient_5 rfl (lv_at hl 1 rfl) ?_
  refine a_iast hx hb hK hP hD hS 1 0 rfl rfl (by omega) (by omega) dX1_setCoefficient_6 (fun H locs hP hD hS => ?_)
  have hP : va_P (dC, dI) vwCl [((xa 7), .inl (dA 4, 8, .inr (.inr (.inr (.inr (fun k => some (rm k))))))), (na_1, .inl (dA 0, 1, .inl (upd (fun _ => 0) 0 t)))] H := hP
  have hD : va_D A [((xa 7), .inl (dA 4, 8, .inr (.inr (.inr (.inr (fun k => some (rm k))))))), (na_1, .inl (dA 0, 1, .inl (upd (fun _ => 0) 0 t)))] := hD
  have hF9 := va_free (wc := []) hD hS (fun q h => hA q h) [] rfl
  refine x_v (wc := []) (wr := [((xa 7), .inl (dA 4, 8, .inr (.inr (.inr (.inr (fun k => some (rm k))))))), (na_1, .inl (dA 0, 1, .inl (upd (fun _ => 0) 0 t)))]) (vx_runS (As := [.ref na_1]) (rest := []) ⟨hx, hb, hml, hown, hts⟩ (x1_registers Z (va_A [] H.size) H.size (fun q h => Or.inr h) Y na_1 1 (upd (fun _ => 0) 0 t) (by decide)) (va_cwS 1 hts (lw_S q469 q470 q96 q471) rfl rfl rfl (by decide +kernel) ⟨Nat.le_of_ble_eq_true rfl, Nat.le_of_ble_eq_true rfl⟩) (gP_S hG hS (fun q _ h => hF9 q h) ⟨rfl, (RO.beside (wr := [(na_1, .inl (dA 0, 1, .inl (upd (fun _ => 0) 0 t)))]) hP hD [] [1] rfl rfl (by decide))⟩) rfl rfl hl.1 rfl (lv_room (Nat.le_of_ble_eq_true rfl)) dX1_setCoefficient_7 ⟨by first | decide | omega | (show _ ≤ (9 : Nat); omega), by first | decide | omega | (show _ ≤ (100 : Nat); omega)⟩) hP hD hS hA [] [0, 1] rfl rfl (by decide) (by decide) (fun E ce q9 u9 t9 H locs ht9 hp9 hb9 hz hP hS h1 h2 h3 => ?_) (fun u9 H locs hq hX hz hk hP hD hS => ?_)
  · have hD := hD.sub (ws' := [((xa 7), .inl (dA 4, 8, .inr (.inr (.inr (.inr (fun k => some (rm k))))))), (na_1, .inl (dA 0, 1, .inl (upd (fun _ => 0) 0 t)))]) [0, 1] (by decide) rfl
    have hP : va_P (dC, dI) vwCl [((xa 7), .inl (dA 4, 8, .inr (.inr (.inr (.inr (fun k => some (rm k))))))), (na_1, .inl (dA 0, 1, .inl (upd (fun _ => 0) 0 t)))] H := hP
    have hD : va_D A [((xa 7), .inl (dA 4, 8, .inr (.inr (.inr (.inr (fun k => some (rm k))))))), (na_1, .inl (dA 0, 1, .inl (upd (fun _ => 0) 0 t)))] := hD
    subst hb9
    subst hQe
    exact vx_outP hown hlocks (by rw [hxt]; exact (List.forall_mem_cons.mpr ⟨Or.inl (by decide), (fun _ h => nomatch h)⟩)) h1 h2 h3 (fun t10 e10 _ => ⟨(), trivial, (⟨Or.inl (⟨rfl, set_1 (by rw [rgs1.symm.trans hp9]; rfl)⟩), by rw [e10]; exact hP.sub (ws' := [((xa 7), .inl (dA 4, 8, .inr (.inr (.inr (.inr (fun k => some (rm k)))))))]) [0] rfl⟩ : (_ ∧ _)), hS.F e10⟩) hS.2.2 (by first | decide | omega) (by first | decide | omega)
  have hrg : (rgB t) = true := rgs1.symm.trans hq
  clear hq
  have hP : va_P (dC, dI) vwCl [((xa 7), .inl (dA 4, 8, .inr (.inr (.inr (.inr (fun k => some (rm k))))))), (na_1, .inl (dA 0, 1, .inl (upd (fun _ => 0) 0 t)))] H := hP
  have hD : va_D A [((xa 7), .inl (dA 4, 8, .inr (.inr (.inr (.inr (fun k => some (rm k))))))), (na_1, .inl (dA 0, 1, .inl (upd (fun _ => 0) 0 t)))] := hD
  have hP0 := hP.sub (ws' := [((xa 7), .inl (dA 4, 8, .inr (.inr (.inr (.inr (fun k => some (rm k)))))))]) [0] rfl
  have hD0 := hD.sub (ws' := [((xa 7), .inl (dA 4, 8, .inr (.inr (.inr (.inr (fun k => some (rm k)))))))]) [0] (by decide) rfl
  have h8jt := inB_nat (by decide) (show inB t (nI 0) (nI 7) = true from hrg)
  obtain ⟨jt, h9jt, e8jt⟩ := h8jt
  have h7jt : jt < 8 := by omega
  subst e8jt
  have hP := hP0
  have hD := hD0
  refine lv_aload_n hx hb dX1_setCoefficient_10 rfl (lv_at hl 0 rfl) ?_
  refine lv_iload_n hx hb dX1_setCoefficient_11 rfl (lv_at hl 2 rfl) ?_
  have hF9 := va_free (wc := []) hD hS (fun q h => hA q h) [] rfl
  refine x_v (wc := []) (wr := [((xa 7), .inl (dA 4, 8, .inr (.inr (.inr (.inr (fun k => some (rm k)))))))]) (vx_runV (As := [.int b]) (rest := []) ⟨hx, hb, hml, hown, hts⟩ (x1_blade Z (va_A [] H.size) H.size (fun q h => Or.inr h) Y xa tl ec ep ga sg sr p0 q0 r0 0 b) (cwV 1 hts (lw_V q489 q491 qs2 q96 q492) rfl rfl rfl (by decide +kernel) ⟨Nat.le_of_ble_eq_true rfl, Nat.le_of_ble_eq_true rfl⟩) (gP_V (va_recv hK (hR0.up hS) (ci := 3) (q0 := 0) rfl rfl) hG hS (fun q _ h => hF9 q h) ⟨rfl, (hR0.to hS (fun q _ h => hF9 q h)), (hAG.to hS (fun q _ h => hF9 q h))⟩) rfl rfl hl.1 rfl (lv_room (Nat.le_of_ble_eq_true rfl)) dX1_setCoefficient_12 ⟨by first | decide | omega | (show _ ≤ (9 : Nat); omega), by first | decide | omega | (show _ ≤ (100 : Nat); omega)⟩) hP hD hS hA [] [0] rfl rfl (by decide) (by decide) (fun E ce q9 u9 t9 H locs ht9 hp9 hb9 hz hP hS h1 h2 h3 => ?_) (fun u9 H locs hq hX hz hk hP hD hS => ?_)
  · have hD := hD.sub (ws' := [((xa 7), .inl (dA 4, 8, .inr (.inr (.inr (.inr (fun k => some (rm k)))))))]) [0] (by decide) rfl
    have hP : va_P (dC, dI) vwCl [((xa 7), .inl (dA 4, 8, .inr (.inr (.inr (.inr (fun k => some (rm k)))))))] H := hP
    have hD : va_D A [((xa 7), .inl (dA 4, 8, .inr (.inr (.inr (.inr (fun k => some (rm k)))))))] := hD
    subst hb9
    subst hQe
    exact vx_outP hown hlocks (by rw [hxt]; exact (List.forall_mem_cons.mpr ⟨Or.inl (by decide), (fun _ h => nomatch h)⟩)) h1 h2 h3 (fun t10 e10 _ => ⟨(), trivial, (⟨Or.inl (⟨rfl, set_1 (by rw [hp9, Bool.and_false])⟩), by rw [e10]; exact hP.sub (ws' := [((xa 7), .inl (dA 4, 8, .inr (.inr (.inr (.inr (fun k => some (rm k)))))))]) [0] rfl⟩ : (_ ∧ _)), hS.F e10⟩) hS.2.2 (by first | decide | omega) (by first | decide | omega)
  have hbl12 := hq
  clear hq
  have hP : va_P (dC, dI) vwCl [((xa 7), .inl (dA 4, 8, .inr (.inr (.inr (.inr (fun k => some (rm k)))))))] H := hP
  have hD : va_D A [((xa 7), .inl (dA 4, 8, .inr (.inr (.inr (.inr (fun k => some (rm k)))))))] := hD
  obtain ⟨jb, h9jb, e8jb⟩ := inB_nat (by omega) hbl12
  have hP0 := hP
  have hD0 := hD
  subst e8jb
  have hP := hP0
  have hD := hD0
  have h6jb : jb < 2 ^ (p0 + q0 + r0) := by omega
  refine lv_iload_n hx hb dX1_setCoefficient_15 rfl (lv_at hl 3 rfl) ?_
  refine lv_i2l (v := x9.toInt64) hx hb dX1_setCoefficient_16 rfl ?_
  refine lv_ldc2 hx hb hown (hts _ q498) dX1_setCoefficient_17 ?_
  refine lv_ldc2 hx hb hown (hts _ q499) dX1_setCoefficient_20 ?_
  refine s_i (va_runS (As := [.long x9.toInt64, .long (-100000000 : Int64), .long (100000000 : Int64)]) (rest := []) ⟨hx, hb, hml, hown, hts⟩ (x1_isIn Z x9.toInt64 (-100000000 : Int64) (100000000 : Int64)) (va_cwS 3 hts (lw_S q332 q333 q96 q334) rfl rfl rfl (by decide +kernel) ⟨Nat.le_of_ble_eq_true rfl, Nat.le_of_ble_eq_true rfl⟩) (gP_S hG hS (fun q _ h => h.elim) trivial) rfl rfl hl.1 rfl (lv_room (Nat.le_of_ble_eq_true rfl)) dX1_setCoefficient_23 ⟨by first | decide | omega | (show _ ≤ (9 : Nat); omega), by first | decide | omega | (show _ ≤ (100 : Nat); omega)⟩) ?_
  refine e_i (y := bI (inB x9 (-100000000) (nI 100000000))) (congrArg bI (inL_B x9 (-100000000) (nI 100000000))) ?_
  refine lv_if_eq (tgt := 46) hx hb dX1_setCoefficient_26 (by decide) (fun c_26 => ?_) (fun c_26 => ?_)
  · have hbad : (smallB x9.toInt64 && inB y9 (nI 1) (nI 10000)) = false := by rw [show smallB x9.toInt64 = false from (sml_B x9).trans (bI_0 c_26), Bool.false_and]
    refine lv_iconst (v := nI 0) hx hb dX1_setCoefficient_46 (by decide) ?_
    have hF9 := va_free (wc := []) hD hS (fun q h => hA q h) [] rfl
    refine x_v (wc := []) (wr := [((xa 7), .inl (dA 4, 8, .inr (.inr (.inr (.inr (fun k => some (rm k)))))))]) (vx_runS (As := [.int (nI 0)]) (rest := []) ⟨hx, hb, hml, hown, hts⟩ (x1_argument Z (va_A [] H.size) H.size (fun q h => Or.inr h) (SS.st Y) (σ 51) (SS.st1 Y) false) (va_cwS 1 hts (lw_S q335 q336 q96 q337) rfl rfl rfl (by decide +kernel) ⟨Nat.le_of_ble_eq_true rfl, Nat.le_of_ble_eq_true rfl⟩) (gP_S hG hS (fun q _ h => hF9 q h) rfl) rfl rfl hl.1 rfl (lv_room (Nat.le_of_ble_eq_true rfl)) dX1_setCoefficient_47 ⟨by first | decide | omega | (show _ ≤ (9 : Nat); omega), by first | decide | omega | (show _ ≤ (100 : Nat); omega)⟩) hP hD hS hA [] [0] rfl rfl (by decide) (by decide) (fun E ce q9 u9 t9 H locs ht9 hp9 hb9 hz hP hS h1 h2 h3 => ?_) (fun u9 H locs hq hX hz hk hP hD hS => ?_)
    · have hD := hD.sub (ws' := [((xa 7), .inl (dA 4, 8, .inr (.inr (.inr (.inr (fun k => some (rm k)))))))]) [0] (by decide) rfl
      have hP : va_P (dC, dI) vwCl [((xa 7), .inl (dA 4, 8, .inr (.inr (.inr (.inr (fun k => some (rm k)))))))] H := hP
      have hD : va_D A [((xa 7), .inl (dA 4, 8, .inr (.inr (.inr (.inr (fun k => some (rm k)))))))] := hD
      subst hb9
      subst hQe
      exact vx_outP hown hlocks (by rw [hxt]; exact (List.forall_mem_cons.mpr ⟨Or.inl (by decide), (fun _ h => nomatch h)⟩)) h1 h2 h3 (fun t10 e10 _ => ⟨(), trivial, (⟨Or.inr (Or.inl (⟨rfl, set_2 hn h7jt h6jb hbad⟩)), by rw [e10]; exact hP.sub (ws' := [((xa 7), .inl (dA 4, 8, .inr (.inr (.inr (.inr (fun k => some (rm k)))))))]) [0] rfl⟩ : (_ ∧ _)), hS.F e10⟩) hS.2.2 (by first | decide | omega) (by first | decide | omega)
    exact absurd hq (by decide)
  · have hx9 := bI_1 c_26
    refine lv_iload hx hb dX1_setCoefficient_29 (lv_at hl 4 rfl) ?_
    refine lv_i2l (v := y9.toInt64) hx hb dX1_setCoefficient_31 rfl ?_
    refine lv_lconst (v := 1) hx hb dX1_setCoefficient_32 rfl ?_
    refine lv_ldc2 hx hb hown (hts _ q500) dX1_setCoefficient_33 ?_
    refine s_i (va_runS (As := [.long y9.toInt64, .long 1, .long (10000 : Int64)]) (rest := []) ⟨hx, hb, hml, hown, hts⟩ (x1_isIn Z y9.toInt64 1 (10000 : Int64)) (va_cwS 3 hts (lw_S q332 q333 q96 q334) rfl rfl rfl (by decide +kernel) ⟨Nat.le_of_ble_eq_true rfl, Nat.le_of_ble_eq_true rfl⟩) (gP_S hG hS (fun q _ h => h.elim) trivial) rfl rfl hl.1 rfl (lv_room (Nat.le_of_ble_eq_true rfl)) dX1_setCoefficient_36 ⟨by first | decide | omega | (show _ ≤ (9 : Nat); omega), by first | decide | omega | (show _ ≤ (100 : Nat); omega)⟩) ?_
    refine e_i (y := bI (inB y9 (nI 1) (nI 10000))) (congrArg bI (inL_B y9 (nI 1) (nI 10000))) ?_
    refine lv_if_eq (tgt := 46) hx hb dX1_setCoefficient_39 (by decide) (fun c_39 => ?_) (fun c_39 => ?_)
    · have hbad : (smallB x9.toInt64 && inB y9 (nI 1) (nI 10000)) = false := by rw [bI_0 c_39, Bool.and_false]
      refine lv_iconst (v := nI 0) hx hb dX1_setCoefficient_46 (by decide) ?_
      have hF9 := va_free (wc := []) hD hS (fun q h => hA q h) [] rfl
      refine x_v (wc := []) (wr := [((xa 7), .inl (dA 4, 8, .inr (.inr (.inr (.inr (fun k => some (rm k)))))))]) (vx_runS (As := [.int (nI 0)]) (rest := []) ⟨hx, hb, hml, hown, hts⟩ (x1_argument Z (va_A [] H.size) H.size (fun q h => Or.inr h) (SS.st Y) (σ 51) (SS.st1 Y) false) (va_cwS 1 hts (lw_S q335 q336 q96 q337) rfl rfl rfl (by decide +kernel) ⟨Nat.le_of_ble_eq_true rfl, Nat.le_of_ble_eq_true rfl⟩) (gP_S hG hS (fun q _ h => hF9 q h) rfl) rfl rfl hl.1 rfl (lv_room (Nat.le_of_ble_eq_true rfl)) dX1_setCoefficient_47 ⟨by first | decide | omega | (show _ ≤ (9 : Nat); omega), by first | decide | omega | (show _ ≤ (100 : Nat); omega)⟩) hP hD hS hA [] [0] rfl rfl (by decide) (by decide) (fun E ce q9 u9 t9 H locs ht9 hp9 hb9 hz hP hS h1 h2 h3 => ?_) (fun u9 H locs hq hX hz hk hP hD hS => ?_)
      · have hD := hD.sub (ws' := [((xa 7), .inl (dA 4, 8, .inr (.inr (.inr (.inr (fun k => some (rm k)))))))]) [0] (by decide) rfl
        have hP : va_P (dC, dI) vwCl [((xa 7), .inl (dA 4, 8, .inr (.inr (.inr (.inr (fun k => some (rm k)))))))] H := hP
        have hD : va_D A [((xa 7), .inl (dA 4, 8, .inr (.inr (.inr (.inr (fun k => some (rm k)))))))] := hD
        subst hb9
        subst hQe
        exact vx_outP hown hlocks (by rw [hxt]; exact (List.forall_mem_cons.mpr ⟨Or.inl (by decide), (fun _ h => nomatch h)⟩)) h1 h2 h3 (fun t10 e10 _ => ⟨(), trivial, (⟨Or.inr (Or.inl (⟨rfl, set_2 hn h7jt h6jb hbad⟩)), by rw [e10]; exact hP.sub (ws' := [((xa 7), .inl (dA 4, 8, .inr (.inr (.inr (.inr (fun k => some (rm k)))))))]) [0] rfl⟩ : (_ ∧ _)), hS.F e10⟩) hS.2.2 (by first | decide | omega) (by first | decide | omega)
      exact absurd hq (by decide)
    · have hy9 := bI_1 c_39
      refine lv_iconst (v := nI 1) hx hb dX1_setCoefficient_42 (by decide) ?_
      refine lv_goto (tgt := 47) hx hb dX1_setCoefficient_43 (by decide) ?_
      have hF9 := va_free (wc := []) hD hS (fun q h => hA q h) [] rfl
      refine x_v (wc := []) (wr := [((xa 7), .inl (dA 4, 8, .inr (.inr (.inr (.inr (fun k => some (rm k)))))))]) (vx_runS (As := [.int (nI 1)]) (rest := []) ⟨hx, hb, hml, hown, hts⟩ (x1_argument Z (va_A [] H.size) H.size (fun q h => Or.inr h) (SS.st Y) (σ 51) (SS.st1 Y) true) (va_cwS 1 hts (lw_S q335 q336 q96 q337) rfl rfl rfl (by decide +kernel) ⟨Nat.le_of_ble_eq_true rfl, Nat.le_of_ble_eq_true rfl⟩) (gP_S hG hS (fun q _ h => hF9 q h) rfl) rfl rfl hl.1 rfl (lv_room (Nat.le_of_ble_eq_true rfl)) dX1_setCoefficient_47 ⟨by first | decide | omega | (show _ ≤ (9 : Nat); omega), by first | decide | omega | (show _ ≤ (100 : Nat); omega)⟩) hP hD hS hA [] [0] rfl rfl (by decide) (by decide) (fun E ce q9 u9 t9 H locs ht9 hp9 hb9 hz hP hS h1 h2 h3 => ?_) (fun u9 H locs hq hX hz hk hP hD hS => ?_)
      · have hD := hD.sub (ws' := [((xa 7), .inl (dA 4, 8, .inr (.inr (.inr (.inr (fun k => some (rm k)))))))]) [0] (by decide) rfl
        have hP : va_P (dC, dI) vwCl [((xa 7), .inl (dA 4, 8, .inr (.inr (.inr (.inr (fun k => some (rm k)))))))] H := hP
        have hD : va_D A [((xa 7), .inl (dA 4, 8, .inr (.inr (.inr (.inr (fun k => some (rm k)))))))] := hD
        exact absurd hp9 (by decide)
      have hg47 : true = true := hq
      clear hq
      have hP : va_P (dC, dI) vwCl [((xa 7), .inl (dA 4, 8, .inr (.inr (.inr (.inr (fun k => some (rm k)))))))] H := hP
      have hD : va_D A [((xa 7), .inl (dA 4, 8, .inr (.inr (.inr (.inr (fun k => some (rm k)))))))] := hD
      refine lv_aload_n hx hb dX1_setCoefficient_50 rfl (lv_at hl 0 rfl) ?_
      refine va_get (D := (dC, dI)) (ci := 3) (v := .ref (xa 3)) (C := RX1) (T := TX1) (N := 9) hx hb hts in_X1 hown hK (hR0.up hS) 0 rfl rfl 2 (by decide) (hts _ q286) (fun _ h9 => h9) rfl dX1_setCoefficient_51 ?_
      refine va_getN (D := (dC, dI)) (ci := 4) (v := .ref (xa 7)) (C := RX4) (T := TX4) (N := 2) hx hb hts in_X4 hown hK (hR0.up hS) 1 rfl rfl 1 (by decide) (((va_Nw.warmF hG.1 (va_Nw.of rfl (Z.2.1 _ q243)))).use rfl) (fun _ h9 => h9) rfl dX1_setCoefficient_54 ?_
      refine lv_iload_n hx hb dX1_setCoefficient_57 rfl (lv_at hl 1 rfl) ?_
      refine lv_aload_n hx hb dX1_setCoefficient_58 rfl (lv_at hl 0 rfl) ?_
      refine va_get (D := (dC, dI)) (ci := 3) (v := .ref (xa 3)) (C := RX1) (T := TX1) (N := 9) hx hb hts in_X1 hown hK (hR0.up hS) 0 rfl rfl 2 (by decide) (hts _ q286) (fun _ h9 => h9) rfl dX1_setCoefficient_59 ?_
      refine va_getN (D := (dC, dI)) (ci := 4) (v := .ref (xa 7)) (C := RX4) (T := TX4) (N := 2) hx hb hts in_X4 hown hK (hR0.up hS) 1 rfl rfl 1 (by decide) (((va_Nw.warmF hG.1 (va_Nw.of rfl (Z.2.1 _ q243)))).use rfl) (fun _ h9 => h9) rfl dX1_setCoefficient_62 ?_
      refine lv_iload_n hx hb dX1_setCoefficient_65 rfl (lv_at hl 1 rfl) ?_
      refine a_aldq hx hb hK hP 0 4 rfl rfl (by omega) (by decide) dX1_setCoefficient_66 ?_
      refine e_v (y := .ref (rm jt)) (rfl) ?_
      have hR2 := hRG jt (by omega)
      refine lv_iload_n hx hb dX1_setCoefficient_67 rfl (lv_at hl 2 rfl) ?_
      refine lv_iload_n hx hb dX1_setCoefficient_68 rfl (lv_at hl 3 rfl) ?_
      refine lv_i2l (v := x9.toInt64) hx hb dX1_setCoefficient_69 rfl ?_
      refine lv_iload hx hb dX1_setCoefficient_70 (lv_at hl 4 rfl) ?_
      refine lv_i2l (v := y9.toInt64) hx hb dX1_setCoefficient_72 rfl ?_
      have hF9 := va_free (wc := []) hD hS (fun q h => hA q h) [] rfl
      refine x_r (wc := []) (wr := [((xa 7), .inl (dA 4, 8, .inr (.inr (.inr (.inr (fun k => some (rm k)))))))]) (vx_runV (As := [.int (nI jb), .long x9.toInt64, .long y9.toInt64]) (rest := [.int (nI jt), .ref (xa 7)]) ⟨hx, hb, hml, hown, hts⟩ (x6_with Z (va_A [] H.size) H.size (fun q h => Or.inr h) Y (rm jt) (rr jt) (Ms jt) jb x9.toInt64 y9.toInt64 (by omega) (sm_of hx9 (by decide) (by decide)) (sm_of hy9 (by decide) (by decide)) (set_u hy9 (sR jt (by omega))) (sR jt (by omega))) (cwV 3 hts (lw_V q501 q502 q503 q102 q504) rfl rfl rfl (by decide +kernel) ⟨Nat.le_of_ble_eq_true rfl, Nat.le_of_ble_eq_true rfl⟩) (gP_V (va_recv hK (hR2.up hS) (ci := 0) (q0 := 0) rfl rfl) hG hS (fun q _ h => hF9 q h) ⟨rfl, (hR2.to hS (fun q _ h => hF9 q h))⟩) rfl rfl hl.1 rfl (lv_room (Nat.le_of_ble_eq_true rfl)) dX1_setCoefficient_73 ⟨by first | decide | omega | (show _ ≤ (9 : Nat); omega), by first | decide | omega | (show _ ≤ (100 : Nat); omega)⟩) hP hD hS hA [] [0] rfl rfl (by decide) (by decide) (fun E ce q9 u9 t9 H locs ht9 hp9 hb9 hz hP hS h1 h2 h3 => ?_) (fun u9 ra9 H locs hq hX hz hk hP hD hS => ?_)
      · have hD := hD.sub (ws' := [((xa 7), .inl (dA 4, 8, .inr (.inr (.inr (.inr (fun k => some (rm k)))))))]) [0] (by decide) rfl
        have hP : va_P (dC, dI) vwCl [((xa 7), .inl (dA 4, 8, .inr (.inr (.inr (.inr (fun k => some (rm k)))))))] H := hP
        have hD : va_D A [((xa 7), .inl (dA 4, 8, .inr (.inr (.inr (.inr (fun k => some (rm k)))))))] := hD
        subst hb9
        refine vx_catch (name := "BladeAlgebra$Unfit") (E := "BladeAlgebra$Unfit") (ce := ce) hown [] ⟨50, 77, 80, 179⟩ [] hxt (fun _ h => nomatch h) (by decide) (by decide) (hts _ q468) (castZ Z hG q523) h1 h2 h3 ?_
        have hpU := hp9
        refine lv_astore (lv' := [(5, .ref q9), (0, .ref (xa 0)), (1, .int (nI jt)), (2, .int (nI jb)), (3, .int x9), (4, .int y9)]) hx hb dX1_setCoefficient_80 hl (by decide) rfl (fun ls hl => ?_)
        have hF9 := va_free (wc := []) hD hS (fun q h => hA q h) [] rfl
        refine c_r (wr := [((xa 7), .inl (dA 4, 8, .inr (.inr (.inr (.inr (fun k => some (rm k)))))))]) (va_runS (As := []) (rest := []) ⟨hx, hb, hml, hown, hts⟩ (x1_large Z (va_A [] H.size) H.size (fun q h => Or.inr h) Y) (va_cwS 0 hts (lw_S q562 q563 q96 q564) rfl rfl rfl (by decide +kernel) ⟨Nat.le_of_ble_eq_true rfl, Nat.le_of_ble_eq_true rfl⟩) (gP_S hG hS (fun q _ h => hF9 q h) rfl) rfl rfl hl.1 rfl (lv_room (Nat.le_of_ble_eq_true rfl)) dX1_setCoefficient_82 ⟨by first | decide | omega | (show _ ≤ (9 : Nat); omega), by first | decide | omega | (show _ ≤ (100 : Nat); omega)⟩) hP hD hS hA [] [0] rfl rfl (by decide) (by decide) (fun u9 ra9 H locs hq hX hz hk hP hD hS => ?_)
        obtain ⟨ra_2, rfl⟩ : ∃ z, z = ra9 := ⟨_, rfl⟩
        have hP : va_P (dC, dI) vwCl [((xa 7), .inl (dA 4, 8, .inr (.inr (.inr (.inr (fun k => some (rm k))))))), (ra_2, .inr (17, []))] H := hP
        have hD : va_D A [((xa 7), .inl (dA 4, 8, .inr (.inr (.inr (.inr (fun k => some (rm k))))))), (ra_2, .inr (17, []))] := hD
        refine vx_athrow hx hb dX1_setCoefficient_85 ?_
        obtain ⟨ce, h1, h2, h3⟩ := va_thr hK hP (ci := 17) (q0 := 1) rfl rfl
        subst hQe
        exact vx_outP hown hlocks (by rw [hxt]; exact (List.forall_mem_cons.mpr ⟨Or.inl (by decide), (fun _ h => nomatch h)⟩)) h1 h2 h3 (fun t10 e10 _ => ⟨(), trivial, (⟨Or.inr (Or.inr (⟨rfl, set_3 hn h7jt h6jb hx9 hy9 hpU⟩)), by rw [e10]; exact hP.sub (ws' := [((xa 7), .inl (dA 4, 8, .inr (.inr (.inr (.inr (fun k => some (rm k)))))))]) [0] rfl⟩ : (_ ∧ _)), hS.F e10⟩) hS.2.2 (by first | decide | omega) (by first | decide | omega)
      obtain ⟨ra_3, rfl⟩ : ∃ z, z = ra9 := ⟨_, rfl⟩
      obtain ⟨mr_3, M_3⟩ := u9
      have e_3 := hq
      have sm_3 : MSm M_3 := fitS_sm (set_u hy9 (sR jt (by omega))) e_3
      clear hq
      have hP : va_P (dC, dI) vwCl [((xa 7), .inl (dA 4, 8, .inr (.inr (.inr (.inr (fun k => some (rm k))))))), (ra_3, .inr (0, [.ref mr_3, .long (M_3 0)])), (mr_3, .inl (dA 1, 32, .inr (.inl (fun j => M_3 (j + 1)))))] H := hP
      have hD : va_D A [((xa 7), .inl (dA 4, 8, .inr (.inr (.inr (.inr (fun k => some (rm k))))))), (ra_3, .inr (0, [.ref mr_3, .long (M_3 0)])), (mr_3, .inl (dA 1, 32, .inr (.inl (fun j => M_3 (j + 1)))))] := hD
      refine a_astM hx hb hK hP hD hS 0 4 rfl rfl (any_of hK hP 1 rfl rfl) (by omega) (by decide) dX1_setCoefficient_76 (fun H locs hP hD hS => ?_)
      have hP : va_P (dC, dI) vwCl [((xa 7), .inl (dA 4, 8, .inr (.inr (.inr (.inr (va_up (fun k => some (rm k)) jt (some ra_3))))))), (ra_3, .inr (0, [.ref mr_3, .long (M_3 0)])), (mr_3, .inl (dA 1, 32, .inr (.inl (fun j => M_3 (j + 1)))))] H := hP
      have hD : va_D A [((xa 7), .inl (dA 4, 8, .inr (.inr (.inr (.inr (va_up (fun k => some (rm k)) jt (some ra_3))))))), (ra_3, .inr (0, [.ref mr_3, .long (M_3 0)])), (mr_3, .inl (dA 1, 32, .inr (.inl (fun j => M_3 (j + 1)))))] := hD
      refine lv_goto (tgt := 86) hx hb dX1_setCoefficient_77 (by decide) ?_
      have e8 : rg (nI jt) = jt := rg_n (by omega)
      subst hQe
      refine vx_ret ?_
      refine W.widen (k := 9) (n := 100) (by first | decide | omega) (by first | decide | omega) ?_
      exact W.vret hx hb hr (fun tz ht hW => ⟨⟨(ra_3, mr_3, M_3), rfl, set_ok hn h7jt h6jb hx9 hy9 e_3, B1_at ht (by rw [e8]; exact hP.sub [0] rfl) (by rw [e8]; exact hD.sub [0] (by decide) rfl) (⟨hP.sub [1, 2] rfl, Or.inl ⟨fresh_of hD hAf 0 1 rfl rfl (by decide), fresh_of hD hAf 0 2 rfl rfl (by decide)⟩⟩)⟩, hS.F ht⟩) hS.2.2 dX1_setCoefficient_86
set_option maxHeartbeats 4000000 in
theorem x1_power {l : Launch} {dC : Nat → ClassId} {dI : Nat → Nat → Nat} {dA : Nat → ClassId} {s0 : State} {b0 : Addr} (Z : Z0 l dC dI dA s0 b0) (A : Nat → Prop) (sz : Nat) (hA : ∀ q : Nat, sz ≤ q → A q) {σ : Nat → Nat} (Y : SS (dC, dI) dA σ s0) (xa : Nat → Nat) (tl : Nat) (ec ep : Int32) (ga sg : Nat) (sr : Nat → Nat) (p0 q0 r0 : Nat) (rm rr : Nat → Nat) (Ms : Nat → MV) (t a x9 : Int32) (sR : ∀ k, k < 8 → MSm (Ms k)) (pR : ∀ k, k < 8 → MSp (2 ^ (p0 + q0 + r0)) (Ms k)) (hAf : ∀ q, A q → q = xa 7 ∨ sz ≤ q) : vx_Met l yX1_power (wsW_ yX1_power cX1_power 6 (some .int) [((26 : Nat), (79 : Nat), (80 : Nat), (179 : Nat))]) ({ frames := 10, cells := 60, slots := 1000, locals := 600 } : Room) (gP [.ref (xa 0), .int t, .int a, .int x9] s0 A (fun H => H.size = sz ∧ va_P (dC, dI) vwCl [((xa 7), .inl (dA 4, 8, .inr (.inr (.inr (.inr (fun k => some (rm k)))))))] H ∧ va_D A [((xa 7), .inl (dA 4, 8, .inr (.inr (.inr (.inr (fun k => some (rm k)))))))] ∧ RO A (dC, dI) [((xa 0), .inr (3, xFs xa tl ec ep)), ((xa 3), .inr (4, [.ref ga, .ref (xa 7)]))] H ∧ AG A (dC, dI) dA ga sg sr p0 q0 r0 H ∧ RG A (dC, dI) dA rm rr Ms H)) (va_Qi (S := Nat × Nat × MV) (fun r9 u => powX p0 q0 r0 Ms t a x9 = (nI 0, some u.2.2) ∧ r9 = nI (trmS u.2.2)) (B1 (dC, dI) A (fun u => [(xa 7, .inl (dA 4, 8, .inr (.inr (.inr (.inr (va_up (fun k => some (rm k)) (rg t) (some u.1)))))))]) (fun u H => NM (dC, dI) dA σ rm rr Ms sz u H)) A) (vx_X (S := Unit) (fun _ => True) (fun _ E _ t9 => ((E = "java/lang/IndexOutOfBoundsException" ∧ powX p0 q0 r0 Ms t a x9 = (nI 1, none)) ∨ (E = "java/lang/IllegalArgumentException" ∧ powX p0 q0 r0 Ms t a x9 = (nI 2, none)) ∨ (E = "java/lang/ArithmeticException" ∧ powX p0 q0 r0 Ms t a x9 = (nI 3, none))) ∧ va_P (dC, dI) vwCl [((xa 7), .inl (dA 4, 8, .inr (.inr (.inr (.inr (fun k => some (rm k)))))))] t9.heap) A) 60 1000 A := by
  refine vx_ofWH (cc := cX1_power) (maxL := 6) (ret := (some .int)) (by decide) rfl ?_
  intro p e s m args below meth c s₁ B hml hv
  obtain ⟨hav, hG, hsz, hP, hD, hR0, hAG, hRG⟩ := hv
  have hx := B.exec
  have hb := B.bytes
  have hr := B.returns
  have hts := atoms_spec (ws := (wsW_ yX1_power cX1_power 6 (some .int) [((26 : Nat), (79 : Nat), (80 : Nat), (179 : Nat))])) B.pre
  have hxt : c.exceptionTable.toList = [⟨26, 79, 80, 179⟩] := vx_table (x := yX1_power) (y := yX1_power) B (hts _ List.mem_cons_self)
  have hts : ∀ w ∈ lw_all, w.before _ s = true := fun w h => hts w (List.mem_cons_of_mem _ h)
  have hown : s.vm.findClass RX1 = some m.cls := findClass_of_methodNamed B.named
  have hlocks := B.notSynchronized
  have hK := hG.K Z
  subst hsz
  have hS : va_S A s.heap s.heap [] := va_S.rf
  have hl := lv_entry ([.ref (xa 0), .int t, .int a, .int x9]) (n := 6) (Nat.le_of_ble_eq_true rfl)
  rw [show entryFrame m args 6 = entryFrame m ([.ref (xa 0), .int t, .int a, .int x9] : List Value).toArray 6 from by rw [hav], lg_entry_eq]
  generalize (lg_sl ([.ref (xa 0), .int t, .int a, .int x9]) ++ List.replicate (6 - (lg_sl ([.ref (xa 0), .int t, .int a, .int x9])).length) Slot.unset).toArray = ls at hl ⊢
  have hl : lv_has ls 6 [(0, .ref (xa 0)), (1, .int t), (2, .int a), (3, .int x9)] := hl
  generalize hQe : vx_MQ below _ _ _ s _ _ _ = Q
  change W p l e ({ frames := 10, cells := 60, slots := 1000, locals := 600 } : Room) s m args below meth c s.heap [] 0 0 Q (F0 m 0 ls [])
  have hn := hAG.1
  have h5 := pow5 hn
  have hR1 := hAG.2.1
  refine lv_iconst (v := nI 2) hx hb dX1_power_0 (by decide) ?_
  refine a_newa (D := (dC, dI)) (atype := .int) (N' := 2) (a0 := (2, .inl (fun _ => 0))) hx hb (hts _ q230) rfl hK hP hD hS hA 0 rfl (fun _ => ra_int) (fun _ => rfl) (by decide) (by decide) (by decide) (by first | decide | omega) (by first | decide | omega) dX1_power_1 (fun na_1 H locs hP hD hS => ?_)
  have hP : va_P (dC, dI) vwCl [((xa 7), .inl (dA 4, 8, .inr (.inr (.inr (.inr (fun k => some (rm k))))))), (na_1, .inl (dA 0, 2, .inl (fun _ => 0)))] H := hP
  have hD : va_D A [((xa 7), .inl (dA 4, 8, .inr (.inr (.inr (.inr (fun k => some (rm k))))))), (na_1, .inl (dA 0, 2, .inl (fun _ => 0)))] := hD
  refine lv_dup hx hb dX1_power_3 rfl ?_
  refine lv_iconst (v := nI 0) hx hb dX1_power_4 (by decide) ?_
  refine lv_iload_n hx hb dX1_power_5 rfl (lv_at hl 1 rfl) ?_
  refine a_iast hx hb hK hP hD hS 1 0 rfl rfl (by omega) (by omega) dX1_power_6 (fun H locs hP hD hS => ?_)
  have hP : va_P (dC, dI) vwCl [((xa 7), .inl (dA 4, 8, .inr (.inr (.inr (.inr (fun k => some (rm k))))))), (na_1, .inl (dA 0, 2, .inl (upd (fun _ => 0) 0 t)))] H := hP
  have hD : va_D A [((xa 7), .inl (dA 4, 8, .inr (.inr (.inr (.inr (fun k => some (rm k))))))), (na_1, .inl (dA 0, 2, .inl (upd (fun _ => 0) 0 t)))] := hD
  refine lv_dup hx hb dX1_power_7 rfl ?_
  refine lv_iconst (v := nI 1) hx hb dX1_power_8 (by decide) ?_
  refine lv_iload_n hx hb dX1_power_9 rfl (lv_at hl 2 rfl) ?_
  refine a_iast hx hb hK hP hD hS 1 0 rfl rfl (by omega) (by omega) dX1_power_10 (fun H locs hP hD hS => ?_)
  have hP : va_P (dC, dI) vwCl [((xa 7), .inl (dA 4, 8, .inr (.inr (.inr (.inr (fun k => some (rm k))))))), (na_1, .inl (dA 0, 2, .inl (upd (upd (fun _ => 0) 0 t) 1 a)))] H := hP
  have hD : va_D A [((xa 7), .inl (dA 4, 8, .inr (.inr (.inr (.inr (fun k => some (rm k))))))), (na_1, .inl (dA 0, 2, .inl (upd (upd (fun _ => 0) 0 t) 1 a)))] := hD
  have hF9 := va_free (wc := []) hD hS (fun q h => hA q h) [] rfl
  refine x_v (wc := []) (wr := [((xa 7), .inl (dA 4, 8, .inr (.inr (.inr (.inr (fun k => some (rm k))))))), (na_1, .inl (dA 0, 2, .inl (upd (upd (fun _ => 0) 0 t) 1 a)))]) (vx_runS (As := [.ref na_1]) (rest := []) ⟨hx, hb, hml, hown, hts⟩ (x1_registers Z (va_A [] H.size) H.size (fun q h => Or.inr h) Y na_1 2 (upd (upd (fun _ => 0) 0 t) 1 a) (by decide)) (va_cwS 1 hts (lw_S q469 q470 q96 q471) rfl rfl rfl (by decide +kernel) ⟨Nat.le_of_ble_eq_true rfl, Nat.le_of_ble_eq_true rfl⟩) (gP_S hG hS (fun q _ h => hF9 q h) ⟨rfl, (RO.beside (wr := [(na_1, .inl (dA 0, 2, .inl (upd (upd (fun _ => 0) 0 t) 1 a)))]) hP hD [] [1] rfl rfl (by decide))⟩) rfl rfl hl.1 rfl (lv_room (Nat.le_of_ble_eq_true rfl)) dX1_power_11 ⟨by first | decide | omega | (show _ ≤ (60 : Nat); omega), by first | decide | omega | (show _ ≤ (1000 : Nat); omega)⟩) hP hD hS hA [] [0, 1] rfl rfl (by decide) (by decide) (fun E ce q9 u9 t9 H locs ht9 hp9 hb9 hz hP hS h1 h2 h3 => ?_) (fun u9 H locs hq hX hz hk hP hD hS => ?_)
  · have hD := hD.sub (ws' := [((xa 7), .inl (dA 4, 8, .inr (.inr (.inr (.inr (fun k => some (rm k))))))), (na_1, .inl (dA 0, 2, .inl (upd (upd (fun _ => 0) 0 t) 1 a)))]) [0, 1] (by decide) rfl
    have hP : va_P (dC, dI) vwCl [((xa 7), .inl (dA 4, 8, .inr (.inr (.inr (.inr (fun k => some (rm k))))))), (na_1, .inl (dA 0, 2, .inl (upd (upd (fun _ => 0) 0 t) 1 a)))] H := hP
    have hD : va_D A [((xa 7), .inl (dA 4, 8, .inr (.inr (.inr (.inr (fun k => some (rm k))))))), (na_1, .inl (dA 0, 2, .inl (upd (upd (fun _ => 0) 0 t) 1 a)))] := hD
    subst hb9
    subst hQe
    exact vx_outP hown hlocks (by rw [hxt]; exact (List.forall_mem_cons.mpr ⟨Or.inl (by decide), (fun _ h => nomatch h)⟩)) h1 h2 h3 (fun t10 e10 _ => ⟨(), trivial, (⟨Or.inl (⟨rfl, pow_1 (rgs2.symm.trans hp9)⟩), by rw [e10]; exact hP.sub (ws' := [((xa 7), .inl (dA 4, 8, .inr (.inr (.inr (.inr (fun k => some (rm k)))))))]) [0] rfl⟩ : (_ ∧ _)), hS.F e10⟩) hS.2.2 (by first | decide | omega) (by first | decide | omega)
  have hrg : (rgB t && rgB a) = true := rgs2.symm.trans hq
  clear hq
  have hP : va_P (dC, dI) vwCl [((xa 7), .inl (dA 4, 8, .inr (.inr (.inr (.inr (fun k => some (rm k))))))), (na_1, .inl (dA 0, 2, .inl (upd (upd (fun _ => 0) 0 t) 1 a)))] H := hP
  have hD : va_D A [((xa 7), .inl (dA 4, 8, .inr (.inr (.inr (.inr (fun k => some (rm k))))))), (na_1, .inl (dA 0, 2, .inl (upd (upd (fun _ => 0) 0 t) 1 a)))] := hD
  have hP0 := hP.sub (ws' := [((xa 7), .inl (dA 4, 8, .inr (.inr (.inr (.inr (fun k => some (rm k)))))))]) [0] rfl
  have hD0 := hD.sub (ws' := [((xa 7), .inl (dA 4, 8, .inr (.inr (.inr (.inr (fun k => some (rm k)))))))]) [0] (by decide) rfl
  have h8jt := inB_nat (by decide) (show inB t (nI 0) (nI 7) = true from (Bool.and_eq_true_iff.mp hrg).1)
  have h8ja := inB_nat (by decide) (show inB a (nI 0) (nI 7) = true from (Bool.and_eq_true_iff.mp hrg).2)
  obtain ⟨jt, h9jt, e8jt⟩ := h8jt
  obtain ⟨ja, h9ja, e8ja⟩ := h8ja
  have h7jt : jt < 8 := by omega
  subst e8jt
  have h7ja : ja < 8 := by omega
  subst e8ja
  have hP := hP0
  have hD := hD0
  refine lv_iload_n hx hb dX1_power_14 rfl (lv_at hl 3 rfl) ?_
  refine lv_i2l (v := x9.toInt64) hx hb dX1_power_15 rfl ?_
  refine lv_lconst (v := 0) hx hb dX1_power_16 rfl ?_
  refine lv_ldc2 hx hb hown (hts _ q857) dX1_power_17 ?_
  refine s_i (va_runS (As := [.long x9.toInt64, .long 0, .long (20 : Int64)]) (rest := []) ⟨hx, hb, hml, hown, hts⟩ (x1_isIn Z x9.toInt64 0 (20 : Int64)) (va_cwS 3 hts (lw_S q332 q333 q96 q334) rfl rfl rfl (by decide +kernel) ⟨Nat.le_of_ble_eq_true rfl, Nat.le_of_ble_eq_true rfl⟩) (gP_S hG hS (fun q _ h => h.elim) trivial) rfl rfl hl.1 rfl (lv_room (Nat.le_of_ble_eq_true rfl)) dX1_power_20 ⟨by first | decide | omega | (show _ ≤ (60 : Nat); omega), by first | decide | omega | (show _ ≤ (1000 : Nat); omega)⟩) ?_
  refine e_i (y := bI (inB x9 (nI 0) (nI 20))) (congrArg bI (inL_B x9 (nI 0) (nI 20))) ?_
  have hF9 := va_free (wc := []) hD hS (fun q h => hA q h) [] rfl
  refine x_v (wc := []) (wr := [((xa 7), .inl (dA 4, 8, .inr (.inr (.inr (.inr (fun k => some (rm k)))))))]) (vx_runS (As := [.int (bI (inB x9 (nI 0) (nI 20)))]) (rest := []) ⟨hx, hb, hml, hown, hts⟩ (x1_argument Z (va_A [] H.size) H.size (fun q h => Or.inr h) (SS.st Y) (σ 51) (SS.st1 Y) (inB x9 (nI 0) (nI 20))) (va_cwS 1 hts (lw_S q335 q336 q96 q337) rfl rfl rfl (by decide +kernel) ⟨Nat.le_of_ble_eq_true rfl, Nat.le_of_ble_eq_true rfl⟩) (gP_S hG hS (fun q _ h => hF9 q h) rfl) rfl rfl hl.1 rfl (lv_room (Nat.le_of_ble_eq_true rfl)) dX1_power_23 ⟨by first | decide | omega | (show _ ≤ (60 : Nat); omega), by first | decide | omega | (show _ ≤ (1000 : Nat); omega)⟩) hP hD hS hA [] [0] rfl rfl (by decide) (by decide) (fun E ce q9 u9 t9 H locs ht9 hp9 hb9 hz hP hS h1 h2 h3 => ?_) (fun u9 H locs hq hX hz hk hP hD hS => ?_)
  · have hD := hD.sub (ws' := [((xa 7), .inl (dA 4, 8, .inr (.inr (.inr (.inr (fun k => some (rm k)))))))]) [0] (by decide) rfl
    have hP : va_P (dC, dI) vwCl [((xa 7), .inl (dA 4, 8, .inr (.inr (.inr (.inr (fun k => some (rm k)))))))] H := hP
    have hD : va_D A [((xa 7), .inl (dA 4, 8, .inr (.inr (.inr (.inr (fun k => some (rm k)))))))] := hD
    subst hb9
    subst hQe
    exact vx_outP hown hlocks (by rw [hxt]; exact (List.forall_mem_cons.mpr ⟨Or.inl (by decide), (fun _ h => nomatch h)⟩)) h1 h2 h3 (fun t10 e10 _ => ⟨(), trivial, (⟨Or.inr (Or.inl (⟨rfl, pow_2 h7jt h7ja hp9⟩)), by rw [e10]; exact hP.sub (ws' := [((xa 7), .inl (dA 4, 8, .inr (.inr (.inr (.inr (fun k => some (rm k)))))))]) [0] rfl⟩ : (_ ∧ _)), hS.F e10⟩) hS.2.2 (by first | decide | omega) (by first | decide | omega)
  have hg23 : (inB x9 (nI 0) (nI 20)) = true := hq
  clear hq
  have hP : va_P (dC, dI) vwCl [((xa 7), .inl (dA 4, 8, .inr (.inr (.inr (.inr (fun k => some (rm k)))))))] H := hP
  have hD : va_D A [((xa 7), .inl (dA 4, 8, .inr (.inr (.inr (.inr (fun k => some (rm k)))))))] := hD
  obtain ⟨jx, h9jx, e8jx⟩ := inB_nat (by decide) hg23
  have hP0 := hP
  have hD0 := hD
  subst e8jx
  have hP := hP0
  have hD := hD0
  refine lv_iconst (v := nI 0) hx hb dX1_power_26 (by decide) ?_
  refine lv_lconst (v := 1) hx hb dX1_power_27 rfl ?_
  refine lv_lconst (v := 1) hx hb dX1_power_28 rfl ?_
  have hF9 := va_free (wc := []) hD hS (fun q h => hA q h) [] rfl
  refine x_r (wc := []) (wr := [((xa 7), .inl (dA 4, 8, .inr (.inr (.inr (.inr (fun k => some (rm k)))))))]) (vx_runS (As := [.int (nI 0), .long 1, .long 1]) (rest := []) ⟨hx, hb, hml, hown, hts⟩ (x6_of Z (va_A [] H.size) H.size (fun q h => Or.inr h) Y 0 1 1 (by omega) (by decide) (by decide) (by decide)) (va_cwS 3 hts (lw_S q858 q819 q102 q820) rfl rfl rfl (by decide +kernel) ⟨Nat.le_of_ble_eq_true rfl, Nat.le_of_ble_eq_true rfl⟩) (gP_S hG hS (fun q _ h => hF9 q h) rfl) rfl rfl hl.1 rfl (lv_room (Nat.le_of_ble_eq_true rfl)) dX1_power_29 ⟨by first | decide | omega | (show _ ≤ (60 : Nat); omega), by first | decide | omega | (show _ ≤ (1000 : Nat); omega)⟩) hP hD hS hA [] [0] rfl rfl (by decide) (by decide) (fun E ce q9 u9 t9 H locs ht9 hp9 hb9 hz hP hS h1 h2 h3 => ?_) (fun u9 ra9 H locs hq hX hz hk hP hD hS => ?_)
  · have hD := hD.sub (ws' := [((xa 7), .inl (dA 4, 8, .inr (.inr (.inr (.inr (fun k => some (rm k)))))))]) [0] (by decide) rfl
    have hP : va_P (dC, dI) vwCl [((xa 7), .inl (dA 4, 8, .inr (.inr (.inr (.inr (fun k => some (rm k)))))))] H := hP
    have hD : va_D A [((xa 7), .inl (dA 4, 8, .inr (.inr (.inr (.inr (fun k => some (rm k)))))))] := hD
    subst hb9
    rw [of_num] at hp9; cases hp9
  obtain ⟨ra_2, rfl⟩ : ∃ z, z = ra9 := ⟨_, rfl⟩
  obtain ⟨mr_2, M_2⟩ := u9
  have e_2 := hq
  have sm_2 : MSm M_2 := fitG_sm (by decide) (by decide) e_2
  clear hq
  have hP : va_P (dC, dI) vwCl [((xa 7), .inl (dA 4, 8, .inr (.inr (.inr (.inr (fun k => some (rm k))))))), (ra_2, .inr (0, [.ref mr_2, .long (M_2 0)])), (mr_2, .inl (dA 1, 32, .inr (.inl (fun j => M_2 (j + 1)))))] H := hP
  have hD : va_D A [((xa 7), .inl (dA 4, 8, .inr (.inr (.inr (.inr (fun k => some (rm k))))))), (ra_2, .inr (0, [.ref mr_2, .long (M_2 0)])), (mr_2, .inl (dA 1, 32, .inr (.inl (fun j => M_2 (j + 1)))))] := hD
  obtain rfl : M_2 = numM 1 := Option.some.inj (e_2.symm.trans of_num)
  refine lv_astore (lv' := [(4, .ref ra_2), (0, .ref (xa 0)), (1, .int (nI jt)), (2, .int (nI ja)), (3, .int (nI jx))]) hx hb dX1_power_32 hl (by decide) rfl (fun ls hl => ?_)
  refine lv_iconst (v := nI 0) hx hb dX1_power_34 (by decide) ?_
  refine lv_istore (lv' := [(5, .int (nI 0)), (4, .ref ra_2), (0, .ref (xa 0)), (1, .int (nI jt)), (2, .int (nI ja)), (3, .int (nI jx))]) hx hb dX1_power_35 hl (by decide) rfl (fun ls hl => ?_)
  refine W.widen (k := 8 + 2 * 0) (n := 100 + 38 * 0) (by decide) (by decide) ?_
  have loop_3 : ∀ (n9_3 : Nat) (kp : Nat) (qm : Nat) (qr : Nat) (M9 : MV) (H : Heap) (locs : List Loc) (ls : Array Slot), 21 - kp < n9_3 → (kp ≤ jx) → (powS p0 q0 r0 (Ms ja) kp = some M9) → (MSm M9) → va_P (dC, dI) vwCl [((xa 7), .inl (dA 4, 8, .inr (.inr (.inr (.inr (fun k => some (rm k))))))), (qm, .inr (0, [.ref qr, .long (M9 0)])), (qr, .inl (dA 1, 32, .inr (.inl (fun j => M9 (j + 1)))))] H → va_D A [((xa 7), .inl (dA 4, 8, .inr (.inr (.inr (.inr (fun k => some (rm k))))))), (qm, .inr (0, [.ref qr, .long (M9 0)])), (qr, .inl (dA 1, 32, .inr (.inl (fun j => M9 (j + 1)))))] → va_S A s.heap H locs → lv_has ls 6 [(0, .ref (xa 0)), (1, .int (nI jt)), (2, .int (nI ja)), (3, .int (nI jx)), (4, .ref qm), (5, .int (nI kp))] → W p l e ({ frames := 10, cells := 60, slots := 1000, locals := 600 } : Room) s m args below meth c H locs (8 + 2 * kp) (100 + 38 * kp) Q (F0 m 37 ls []) := by
    intro n9_3
    induction n9_3 with
    | zero => intro kp qm qr M9 H locs ls hm_3; exact absurd hm_3 (Nat.not_lt_zero _)
    | succ n9_3 ih_3 =>
      intro kp qm qr M9 H locs ls hm_3 hkx hk8 sM9 hP hD hS hl
      refine lv_iload hx hb dX1_power_37 (lv_at hl 5 rfl) ?_
      refine lv_iload_n hx hb dX1_power_39 rfl (lv_at hl 3 rfl) ?_
      refine lv_icmp_ge (tgt := 72) hx hb dX1_power_40 (by decide) (fun c_40 => ?_) (fun c_40 => ?_)
      · have c_40 : jx ≤ kp := (nI_leI (a := jx) (b := kp) (by omega) (by omega)).mp c_40
        obtain rfl : kp = jx := by omega
        refine lv_aload_n hx hb dX1_power_72 rfl (lv_at hl 0 rfl) ?_
        refine lv_iload_n hx hb dX1_power_73 rfl (lv_at hl 1 rfl) ?_
        refine lv_aload hx hb dX1_power_74 (lv_at hl 4 rfl) ?_
        have hF9 := va_free (wc := [((xa 7), .inl (dA 4, 8, .inr (.inr (.inr (.inr (fun k => some (rm k)))))))]) hD hS (fun q h => hA q h) [0] rfl
        refine c_i (wr := [(qm, .inr (0, [.ref qr, .long (M9 0)])), (qr, .inl (dA 1, 32, .inr (.inl (fun j => M9 (j + 1)))))]) (va_runV (As := [.int (nI jt), .ref qm]) (rest := []) ⟨hx, hb, hml, hown, hts⟩ (x1_store Z (va_A [((xa 7), .inl (dA 4, 8, .inr (.inr (.inr (.inr (fun k => some (rm k)))))))] H.size) H.size (fun q h => Or.inr h) Y xa tl ec ep ga (fun k => some (rm k)) jt qm qr M9 (by omega)) (cwV 2 hts (lw_V q731 q733 qs6 q96 q734) rfl rfl rfl (by decide +kernel) ⟨Nat.le_of_ble_eq_true rfl, Nat.le_of_ble_eq_true rfl⟩) (gP_V (va_recv hK (hR0.up hS) (ci := 3) (q0 := 0) rfl rfl) hG hS (fun q _ h => hF9 q h) ⟨rfl, (hP.sub (ws' := [((xa 7), .inl (dA 4, 8, .inr (.inr (.inr (.inr (fun k => some (rm k)))))))]) [0] rfl), (hD.sub (ws' := [((xa 7), .inl (dA 4, 8, .inr (.inr (.inr (.inr (fun k => some (rm k)))))))]) [0] (by decide) rfl).self, (hR0.to hS (fun q _ h => hF9 q h)), (RO.beside (wr := [(qm, .inr (0, [.ref qr, .long (M9 0)])), (qr, .inl (dA 1, 32, .inr (.inl (fun j => M9 (j + 1)))))]) hP hD [0] [1, 2] rfl rfl (by decide))⟩) rfl rfl hl.1 rfl (lv_room (Nat.le_of_ble_eq_true rfl)) dX1_power_76 ⟨by first | decide | omega | (show _ ≤ (60 : Nat); omega), by first | decide | omega | (show _ ≤ (1000 : Nat); omega)⟩) hP hD hS hA [0] [1, 2] rfl rfl (by decide) (by decide) (fun r9 u9 H locs hq hX hz hk hP hD hS => ?_)
        obtain ⟨r_4, rfl⟩ : ∃ z, z = r9 := ⟨_, rfl⟩
        subst hq
        have hP : va_P (dC, dI) vwCl [(qm, .inr (0, [.ref qr, .long (M9 0)])), (qr, .inl (dA 1, 32, .inr (.inl (fun j => M9 (j + 1))))), ((xa 7), .inl (dA 4, 8, .inr (.inr (.inr (.inr (va_up (fun k => some (rm k)) jt (some qm)))))))] H := hP
        have hD : va_D A [(qm, .inr (0, [.ref qr, .long (M9 0)])), (qr, .inl (dA 1, 32, .inr (.inl (fun j => M9 (j + 1))))), ((xa 7), .inl (dA 4, 8, .inr (.inr (.inr (.inr (va_up (fun k => some (rm k)) jt (some qm)))))))] := hD
        have e8 : rg (nI jt) = jt := rg_n (by omega)
        subst hQe
        refine vx_ret ?_
        refine W.widen (k := 60) (n := 1000) (by first | decide | omega) (by first | decide | omega) ?_
        exact W.iret (v := nI (trmS M9)) hx hb hr (fun tz ht hW => ⟨⟨_, (qm, qr, M9), rfl, ⟨pow_ok h7jt h7ja h9jx hk8, rfl⟩, B1_at ht (by rw [e8]; exact hP.sub [2] rfl) (by rw [e8]; exact hD.sub [2] (by decide) rfl) (⟨hP.sub [0, 1] rfl, Or.inl ⟨fresh_of hD hAf 2 0 rfl rfl (by decide), fresh_of hD hAf 2 1 rfl rfl (by decide)⟩⟩)⟩, hS.F ht⟩) hS.2.2 dX1_power_79
      · have c_40 : ¬ jx ≤ kp := fun h => c_40 ((nI_leI (a := jx) (b := kp) (by omega) (by omega)).mpr h)
        refine lv_aload_n hx hb dX1_power_43 rfl (lv_at hl 0 rfl) ?_
        refine va_get (D := (dC, dI)) (ci := 3) (v := .ref (xa 3)) (C := RX1) (T := TX1) (N := 9) hx hb hts in_X1 hown hK (hR0.up hS) 0 rfl rfl 2 (by decide) (hts _ q286) (fun _ h9 => h9) rfl dX1_power_44 ?_
        refine va_getN (D := (dC, dI)) (ci := 4) (v := .ref ga) (C := RX4) (T := TX4) (N := 2) hx hb hts in_X4 hown hK (hR0.up hS) 1 rfl rfl 0 (by decide) (((va_Nw.warmF hG.1 (va_Nw.of rfl (Z.2.1 _ q240)))).use rfl) (fun _ h9 => h9) rfl dX1_power_47 ?_
        refine lv_aload hx hb dX1_power_50 (lv_at hl 4 rfl) ?_
        refine lv_aload_n hx hb dX1_power_52 rfl (lv_at hl 0 rfl) ?_
        refine va_get (D := (dC, dI)) (ci := 3) (v := .ref (xa 3)) (C := RX1) (T := TX1) (N := 9) hx hb hts in_X1 hown hK (hR0.up hS) 0 rfl rfl 2 (by decide) (hts _ q286) (fun _ h9 => h9) rfl dX1_power_53 ?_
        refine va_getN (D := (dC, dI)) (ci := 4) (v := .ref (xa 7)) (C := RX4) (T := TX4) (N := 2) hx hb hts in_X4 hown hK (hR0.up hS) 1 rfl rfl 1 (by decide) (((va_Nw.warmF hG.1 (va_Nw.of rfl (Z.2.1 _ q243)))).use rfl) (fun _ h9 => h9) rfl dX1_power_56 ?_
        refine lv_iload_n hx hb dX1_power_59 rfl (lv_at hl 2 rfl) ?_
        refine a_aldq hx hb hK hP 0 4 rfl rfl (by omega) (by decide) dX1_power_60 ?_
        refine e_v (y := .ref (rm ja)) (rfl) ?_
        have hR2 := hRG ja (by omega)
        have hF9 := va_free (wc := []) hD hS (fun q h => hA q h) [] rfl
        refine x_r (wc := []) (wr := [((xa 7), .inl (dA 4, 8, .inr (.inr (.inr (.inr (fun k => some (rm k))))))), (qm, .inr (0, [.ref qr, .long (M9 0)])), (qr, .inl (dA 1, 32, .inr (.inl (fun j => M9 (j + 1)))))]) (vx_runV (As := [.ref qm, .ref (rm ja)]) (rest := []) ⟨hx, hb, hml, hown, hts⟩ (x5_product2 Z (va_A [] H.size) H.size (fun q h => Or.inr h) Y ga sg sr p0 q0 r0 qm qr M9 (rm ja) (rr ja) (Ms ja) sM9 (sR ja (by omega))) (cwV 2 hts (lw_V q859 q652 q653 q101 q654) rfl rfl rfl (by decide +kernel) ⟨Nat.le_of_ble_eq_true rfl, Nat.le_of_ble_eq_true rfl⟩) (gP_V (va_recv hK (hR1.up hS) (ci := 1) (q0 := 0) rfl rfl) hG hS (fun q _ h => hF9 q h) ⟨rfl, (RO.beside (wr := [(qm, .inr (0, [.ref qr, .long (M9 0)])), (qr, .inl (dA 1, 32, .inr (.inl (fun j => M9 (j + 1)))))]) hP hD [] [1, 2] rfl rfl (by decide)), (hR2.to hS (fun q _ h => hF9 q h)), (hAG.to hS (fun q _ h => hF9 q h))⟩) rfl rfl hl.1 rfl (lv_room (Nat.le_of_ble_eq_true rfl)) dX1_power_61 ⟨by first | decide | omega | (show _ ≤ (60 : Nat); omega), by first | decide | omega | (show _ ≤ (1000 : Nat); omega)⟩) hP hD hS hA [] [0, 1, 2] rfl rfl (by decide) (by decide) (fun E ce q9 u9 t9 H locs ht9 hp9 hb9 hz hP hS h1 h2 h3 => ?_) (fun u9 ra9 H locs hq hX hz hk hP hD hS => ?_)
        · have hD := hD.sub (ws' := [((xa 7), .inl (dA 4, 8, .inr (.inr (.inr (.inr (fun k => some (rm k))))))), (qm, .inr (0, [.ref qr, .long (M9 0)])), (qr, .inl (dA 1, 32, .inr (.inl (fun j => M9 (j + 1)))))]) [0, 1, 2] (by decide) rfl
          have hP : va_P (dC, dI) vwCl [((xa 7), .inl (dA 4, 8, .inr (.inr (.inr (.inr (fun k => some (rm k))))))), (qm, .inr (0, [.ref qr, .long (M9 0)])), (qr, .inl (dA 1, 32, .inr (.inl (fun j => M9 (j + 1)))))] H := hP
          have hD : va_D A [((xa 7), .inl (dA 4, 8, .inr (.inr (.inr (.inr (fun k => some (rm k))))))), (qm, .inr (0, [.ref qr, .long (M9 0)])), (qr, .inl (dA 1, 32, .inr (.inl (fun j => M9 (j + 1)))))] := hD
          subst hb9
          have hpU := pow_f hk8 (show kp < jx by omega) hp9
          refine vx_catch (name := "BladeAlgebra$Unfit") (E := "BladeAlgebra$Unfit") (ce := ce) hown [] ⟨26, 79, 80, 179⟩ [] hxt (fun _ h => nomatch h) (by decide) (by decide) (hts _ q468) (castZ Z hG q523) h1 h2 h3 ?_
          refine lv_astore (lv' := [(4, .ref q9), (0, .ref (xa 0)), (1, .int (nI jt)), (2, .int (nI ja)), (3, .int (nI jx)), (5, .int (nI kp))]) hx hb dX1_power_80 hl (by decide) rfl (fun ls hl => ?_)
          have hF9 := va_free (wc := []) hD hS (fun q h => hA q h) [] rfl
          refine c_r (wr := [((xa 7), .inl (dA 4, 8, .inr (.inr (.inr (.inr (fun k => some (rm k))))))), (qm, .inr (0, [.ref qr, .long (M9 0)])), (qr, .inl (dA 1, 32, .inr (.inl (fun j => M9 (j + 1)))))]) (va_runS (As := []) (rest := []) ⟨hx, hb, hml, hown, hts⟩ (x1_large Z (va_A [] H.size) H.size (fun q h => Or.inr h) Y) (va_cwS 0 hts (lw_S q562 q563 q96 q564) rfl rfl rfl (by decide +kernel) ⟨Nat.le_of_ble_eq_true rfl, Nat.le_of_ble_eq_true rfl⟩) (gP_S hG hS (fun q _ h => hF9 q h) rfl) rfl rfl hl.1 rfl (lv_room (Nat.le_of_ble_eq_true rfl)) dX1_power_82 ⟨by first | decide | omega | (show _ ≤ (60 : Nat); omega), by first | decide | omega | (show _ ≤ (1000 : Nat); omega)⟩) hP hD hS hA [] [0, 1, 2] rfl rfl (by decide) (by decide) (fun u9 ra9 H locs hq hX hz hk hP hD hS => ?_)
          obtain ⟨ra_5, rfl⟩ : ∃ z, z = ra9 := ⟨_, rfl⟩
          have hP : va_P (dC, dI) vwCl [((xa 7), .inl (dA 4, 8, .inr (.inr (.inr (.inr (fun k => some (rm k))))))), (qm, .inr (0, [.ref qr, .long (M9 0)])), (qr, .inl (dA 1, 32, .inr (.inl (fun j => M9 (j + 1))))), (ra_5, .inr (17, []))] H := hP
          have hD : va_D A [((xa 7), .inl (dA 4, 8, .inr (.inr (.inr (.inr (fun k => some (rm k))))))), (qm, .inr (0, [.ref qr, .long (M9 0)])), (qr, .inl (dA 1, 32, .inr (.inl (fun j => M9 (j + 1))))), (ra_5, .inr (17, []))] := hD
          refine vx_athrow hx hb dX1_power_85 ?_
          obtain ⟨ce, h1, h2, h3⟩ := va_thr hK hP (ci := 17) (q0 := 3) rfl rfl
          subst hQe
          exact vx_outP hown hlocks (by rw [hxt]; exact (List.forall_mem_cons.mpr ⟨Or.inl (by decide), (fun _ h => nomatch h)⟩)) h1 h2 h3 (fun t10 e10 _ => ⟨(), trivial, (⟨Or.inr (Or.inr (⟨rfl, pow_3 h7jt h7ja h9jx hpU⟩)), by rw [e10]; exact hP.sub (ws' := [((xa 7), .inl (dA 4, 8, .inr (.inr (.inr (.inr (fun k => some (rm k)))))))]) [0] rfl⟩ : (_ ∧ _)), hS.F e10⟩) hS.2.2 (by first | decide | omega) (by first | decide | omega)
        obtain ⟨ra_6, rfl⟩ : ∃ z, z = ra9 := ⟨_, rfl⟩
        obtain ⟨mr_6, M_6⟩ := u9
        have e_6 := hq
        have sm_6 : MSm M_6 := mulS_sm sM9 (sR ja (by omega)) e_6
        clear hq
        have hP : va_P (dC, dI) vwCl [((xa 7), .inl (dA 4, 8, .inr (.inr (.inr (.inr (fun k => some (rm k))))))), (qm, .inr (0, [.ref qr, .long (M9 0)])), (qr, .inl (dA 1, 32, .inr (.inl (fun j => M9 (j + 1))))), (ra_6, .inr (0, [.ref mr_6, .long (M_6 0)])), (mr_6, .inl (dA 1, 32, .inr (.inl (fun j => M_6 (j + 1)))))] H := hP
        have hD : va_D A [((xa 7), .inl (dA 4, 8, .inr (.inr (.inr (.inr (fun k => some (rm k))))))), (qm, .inr (0, [.ref qr, .long (M9 0)])), (qr, .inl (dA 1, 32, .inr (.inl (fun j => M9 (j + 1))))), (ra_6, .inr (0, [.ref mr_6, .long (M_6 0)])), (mr_6, .inl (dA 1, 32, .inr (.inl (fun j => M_6 (j + 1)))))] := hD
        refine lv_astore (lv' := [(4, .ref ra_6), (0, .ref (xa 0)), (1, .int (nI jt)), (2, .int (nI ja)), (3, .int (nI jx)), (5, .int (nI kp))]) hx hb dX1_power_64 hl (by decide) rfl (fun ls hl => ?_)
        refine lv_iinc (v := nI (kp + 1)) (lv' := [(5, .int (nI (kp + 1))), (4, .ref ra_6), (0, .ref (xa 0)), (1, .int (nI jt)), (2, .int (nI ja)), (3, .int (nI jx))]) hx hb dX1_power_66 hl (k := 5) rfl (by exact nI_add _ 1) (by decide) rfl (fun ls hl => ?_)
        refine lv_goto (tgt := 37) hx hb dX1_power_69 (by decide) ?_
        refine W.widen (k := 8 + 2 * (kp + 1)) (n := 100 + 38 * (kp + 1)) (by omega) (by omega) ?_
        exact ih_3 (kp + 1) ra_6 mr_6 M_6 H locs ls (by omega) (by omega) (pow_s hk8 e_6) sm_6 (hP.sub [0, 3, 4] rfl) (hD.sub [0, 3, 4] (by decide) rfl) hS (lv_sub hl [2, 3, 4, 5, 1, 0] rfl)
  exact loop_3 _ 0 ra_2 mr_2 (numM 1) H locs ls (Nat.lt_succ_self _) (by omega) rfl sm_2 (hP.sub [0, 1, 2] rfl) (hD.sub [0, 1, 2] (by decide) rfl) hS (lv_sub hl [2, 3, 4, 5, 1, 0] rfl)
set_option maxHeartbeats 4000000 in
theorem x1_project {l : Launch} {dC : Nat → ClassId} {dI : Nat → Nat → Nat} {dA : Nat → ClassId} {s0 : State} {b0 : Addr} (Z : Z0 l dC dI dA s0 b0) (A : Nat → Prop) (sz : Nat) (hA : ∀ q : Nat, sz ≤ q → A q) {σ : Nat → Nat} (Y : SS (dC, dI) dA σ s0) (xa : Nat → Nat) (tl : Nat) (ec ep : Int32) (ga sg : Nat) (sr : Nat → Nat) (p0 q0 r0 : Nat) (rm rr : Nat → Nat) (Ms : Nat → MV) (t a b : Int32) (sR : ∀ k, k < 8 → MSm (Ms k)) (pR : ∀ k, k < 8 → MSp (2 ^ (p0 + q0 + r0)) (Ms k)) (hAf : ∀ q, A q → q = xa 7 ∨ sz ≤ q) : vx_Met l yX1_project (wsW_ yX1_project cX1_project 6 (some .int) [((18 : Nat), (94 : Nat), (95 : Nat), (179 : Nat))]) ({ frames := 11, cells := 20, slots := 300, locals := 660 } : Room) (gP [.ref (xa 0), .int t, .int a, .int b] s0 A (fun H => H.size = sz ∧ va_P (dC, dI) vwCl [((xa 7), .inl (dA 4, 8, .inr (.inr (.inr (.inr (fun k => some (rm k)))))))] H ∧ va_D A [((xa 7), .inl (dA 4, 8, .inr (.inr (.inr (.inr (fun k => some (rm k)))))))] ∧ RO A (dC, dI) [((xa 0), .inr (3, xFs xa tl ec ep)), ((xa 3), .inr (4, [.ref ga, .ref (xa 7)]))] H ∧ AG A (dC, dI) dA ga sg sr p0 q0 r0 H ∧ RG A (dC, dI) dA rm rr Ms H)) (va_Qi (S := Nat × Nat × MV) (fun r9 u => prjX p0 q0 r0 Ms t a b = (nI 0, some u.2.2) ∧ r9 = nI (trmS u.2.2)) (B1 (dC, dI) A (fun u => [(xa 7, .inl (dA 4, 8, .inr (.inr (.inr (.inr (va_up (fun k => some (rm k)) (rg t) (some u.1)))))))]) (fun u H => NM (dC, dI) dA σ rm rr Ms sz u H)) A) (vx_X (S := Unit) (fun _ => True) (fun _ E _ t9 => ((E = "java/lang/IndexOutOfBoundsException" ∧ prjX p0 q0 r0 Ms t a b = (nI 1, none)) ∨ (E = "java/lang/ArithmeticException" ∧ prjX p0 q0 r0 Ms t a b = (nI 2, none)) ∨ (E = "java/lang/IllegalStateException" ∧ prjX p0 q0 r0 Ms t a b = (nI 3, none))) ∧ va_P (dC, dI) vwCl [((xa 7), .inl (dA 4, 8, .inr (.inr (.inr (.inr (fun k => some (rm k)))))))] t9.heap) A) 20 300 A := by
  refine vx_ofWH (cc := cX1_project) (maxL := 6) (ret := (some .int)) (by decide) rfl ?_
  intro p e s m args below meth c s₁ B hml hv
  obtain ⟨hav, hG, hsz, hP, hD, hR0, hAG, hRG⟩ := hv
  have hx := B.exec
  have hb := B.bytes
  have hr := B.returns
  have hts := atoms_spec (ws := (wsW_ yX1_project cX1_project 6 (some .int) [((18 : Nat), (94 : Nat), (95 : Nat), (179 : Nat))])) B.pre
  have hxt : c.exceptionTable.toList = [⟨18, 94, 95, 179⟩] := vx_table (x := yX1_project) (y := yX1_project) B (hts _ List.mem_cons_self)
  have hts : ∀ w ∈ lw_all, w.before _ s = true := fun w h => hts w (List.mem_cons_of_mem _ h)
  have hown : s.vm.findClass RX1 = some m.cls := findClass_of_methodNamed B.named
  have hlocks := B.notSynchronized
  have hK := hG.K Z
  subst hsz
  have hS : va_S A s.heap s.heap [] := va_S.rf
  have hl := lv_entry ([.ref (xa 0), .int t, .int a, .int b]) (n := 6) (Nat.le_of_ble_eq_true rfl)
  rw [show entryFrame m args 6 = entryFrame m ([.ref (xa 0), .int t, .int a, .int b] : List Value).toArray 6 from by rw [hav], lg_entry_eq]
  generalize (lg_sl ([.ref (xa 0), .int t, .int a, .int b]) ++ List.replicate (6 - (lg_sl ([.ref (xa 0), .int t, .int a, .int b])).length) Slot.unset).toArray = ls at hl ⊢
  have hl : lv_has ls 6 [(0, .ref (xa 0)), (1, .int t), (2, .int a), (3, .int b)] := hl
  generalize hQe : vx_MQ below _ _ _ s _ _ _ = Q
  change W p l e ({ frames := 11, cells := 20, slots := 300, locals := 660 } : Room) s m args below meth c s.heap [] 0 0 Q (F0 m 0 ls [])
  have hn := hAG.1
  have h5 := pow5 hn
  have hR1 := hAG.2.1
  refine lv_iconst (v := nI 3) hx hb dX1_project_0 (by decide) ?_
  refine a_newa (D := (dC, dI)) (atype := .int) (N' := 3) (a0 := (3, .inl (fun _ => 0))) hx hb (hts _ q230) rfl hK hP hD hS hA 0 rfl (fun _ => ra_int) (fun _ => rfl) (by decide) (by decide) (by decide) (by first | decide | omega) (by first | decide | omega) dX1_project_1 (fun na_1 H locs hP hD hS => ?_)
  have hP : va_P (dC, dI) vwCl [((xa 7), .inl (dA 4, 8, .inr (.inr (.inr (.inr (fun k => some (rm k))))))), (na_1, .inl (dA 0, 3, .inl (fun _ => 0)))] H := hP
  have hD : va_D A [((xa 7), .inl (dA 4, 8, .inr (.inr (.inr (.inr (fun k => some (rm k))))))), (na_1, .inl (dA 0, 3, .inl (fun _ => 0)))] := hD
  refine lv_dup hx hb dX1_project_3 rfl ?_
  refine lv_iconst (v := nI 0) hx hb dX1_project_4 (by decide) ?_
  refine lv_iload_n hx hb dX1_project_5 rfl (lv_at hl 1 rfl) ?_
  refine a_iast hx hb hK hP hD hS 1 0 rfl rfl (by omega) (by omega) dX1_project_6 (fun H locs hP hD hS => ?_)
  have hP : va_P (dC, dI) vwCl [((xa 7), .inl (dA 4, 8, .inr (.inr (.inr (.inr (fun k => some (rm k))))))), (na_1, .inl (dA 0, 3, .inl (upd (fun _ => 0) 0 t)))] H := hP
  have hD : va_D A [((xa 7), .inl (dA 4, 8, .inr (.inr (.inr (.inr (fun k => some (rm k))))))), (na_1, .inl (dA 0, 3, .inl (upd (fun _ => 0) 0 t)))] := hD
  refine lv_dup hx hb dX1_project_7 rfl ?_
  refine lv_iconst (v := nI 1) hx hb dX1_project_8 (by decide) ?_
  refine lv_iload_n hx hb dX1_project_9 rfl (lv_at hl 2 rfl) ?_
  refine a_iast hx hb hK hP hD hS 1 0 rfl rfl (by omega) (by omega) dX1_project_10 (fun H locs hP hD hS => ?_)
  have hP : va_P (dC, dI) vwCl [((xa 7), .inl (dA 4, 8, .inr (.inr (.inr (.inr (fun k => some (rm k))))))), (na_1, .inl (dA 0, 3, .inl (upd (upd (fun _ => 0) 0 t) 1 a)))] H := hP
  have hD : va_D A [((xa 7), .inl (dA 4, 8, .inr (.inr (.inr (.inr (fun k => some (rm k))))))), (na_1, .inl (dA 0, 3, .inl (upd (upd (fun _ => 0) 0 t) 1 a)))] := hD
  refine lv_dup hx hb dX1_project_11 rfl ?_
  refine lv_iconst (v := nI 2) hx hb dX1_project_12 (by decide) ?_
  refine lv_iload_n hx hb dX1_project_13 rfl (lv_at hl 3 rfl) ?_
  refine a_iast hx hb hK hP hD hS 1 0 rfl rfl (by omega) (by omega) dX1_project_14 (fun H locs hP hD hS => ?_)
  have hP : va_P (dC, dI) vwCl [((xa 7), .inl (dA 4, 8, .inr (.inr (.inr (.inr (fun k => some (rm k))))))), (na_1, .inl (dA 0, 3, .inl (upd (upd (upd (fun _ => 0) 0 t) 1 a) 2 b)))] H := hP
  have hD : va_D A [((xa 7), .inl (dA 4, 8, .inr (.inr (.inr (.inr (fun k => some (rm k))))))), (na_1, .inl (dA 0, 3, .inl (upd (upd (upd (fun _ => 0) 0 t) 1 a) 2 b)))] := hD
  have hF9 := va_free (wc := []) hD hS (fun q h => hA q h) [] rfl
  refine x_v (wc := []) (wr := [((xa 7), .inl (dA 4, 8, .inr (.inr (.inr (.inr (fun k => some (rm k))))))), (na_1, .inl (dA 0, 3, .inl (upd (upd (upd (fun _ => 0) 0 t) 1 a) 2 b)))]) (vx_runS (As := [.ref na_1]) (rest := []) ⟨hx, hb, hml, hown, hts⟩ (x1_registers Z (va_A [] H.size) H.size (fun q h => Or.inr h) Y na_1 3 (upd (upd (upd (fun _ => 0) 0 t) 1 a) 2 b) (by decide)) (va_cwS 1 hts (lw_S q469 q470 q96 q471) rfl rfl rfl (by decide +kernel) ⟨Nat.le_of_ble_eq_true rfl, Nat.le_of_ble_eq_true rfl⟩) (gP_S hG hS (fun q _ h => hF9 q h) ⟨rfl, (RO.beside (wr := [(na_1, .inl (dA 0, 3, .inl (upd (upd (upd (fun _ => 0) 0 t) 1 a) 2 b)))]) hP hD [] [1] rfl rfl (by decide))⟩) rfl rfl hl.1 rfl (lv_room (Nat.le_of_ble_eq_true rfl)) dX1_project_15 ⟨by first | decide | omega | (show _ ≤ (20 : Nat); omega), by first | decide | omega | (show _ ≤ (300 : Nat); omega)⟩) hP hD hS hA [] [0, 1] rfl rfl (by decide) (by decide) (fun E ce q9 u9 t9 H locs ht9 hp9 hb9 hz hP hS h1 h2 h3 => ?_) (fun u9 H locs hq hX hz hk hP hD hS => ?_)
  · have hD := hD.sub (ws' := [((xa 7), .inl (dA 4, 8, .inr (.inr (.inr (.inr (fun k => some (rm k))))))), (na_1, .inl (dA 0, 3, .inl (upd (upd (upd (fun _ => 0) 0 t) 1 a) 2 b)))]) [0, 1] (by decide) rfl
    have hP : va_P (dC, dI) vwCl [((xa 7), .inl (dA 4, 8, .inr (.inr (.inr (.inr (fun k => some (rm k))))))), (na_1, .inl (dA 0, 3, .inl (upd (upd (upd (fun _ => 0) 0 t) 1 a) 2 b)))] H := hP
    have hD : va_D A [((xa 7), .inl (dA 4, 8, .inr (.inr (.inr (.inr (fun k => some (rm k))))))), (na_1, .inl (dA 0, 3, .inl (upd (upd (upd (fun _ => 0) 0 t) 1 a) 2 b)))] := hD
    subst hb9
    subst hQe
    exact vx_outP hown hlocks (by rw [hxt]; exact (List.forall_mem_cons.mpr ⟨Or.inl (by decide), (fun _ h => nomatch h)⟩)) h1 h2 h3 (fun t10 e10 _ => ⟨(), trivial, (⟨Or.inl (⟨rfl, prj_1 (rgs3.symm.trans hp9)⟩), by rw [e10]; exact hP.sub (ws' := [((xa 7), .inl (dA 4, 8, .inr (.inr (.inr (.inr (fun k => some (rm k)))))))]) [0] rfl⟩ : (_ ∧ _)), hS.F e10⟩) hS.2.2 (by first | decide | omega) (by first | decide | omega)
  have hrg : (rgB t && rgB a && rgB b) = true := rgs3.symm.trans hq
  clear hq
  have hP : va_P (dC, dI) vwCl [((xa 7), .inl (dA 4, 8, .inr (.inr (.inr (.inr (fun k => some (rm k))))))), (na_1, .inl (dA 0, 3, .inl (upd (upd (upd (fun _ => 0) 0 t) 1 a) 2 b)))] H := hP
  have hD : va_D A [((xa 7), .inl (dA 4, 8, .inr (.inr (.inr (.inr (fun k => some (rm k))))))), (na_1, .inl (dA 0, 3, .inl (upd (upd (upd (fun _ => 0) 0 t) 1 a) 2 b)))] := hD
  have hP0 := hP.sub (ws' := [((xa 7), .inl (dA 4, 8, .inr (.inr (.inr (.inr (fun k => some (rm k)))))))]) [0] rfl
  have hD0 := hD.sub (ws' := [((xa 7), .inl (dA 4, 8, .inr (.inr (.inr (.inr (fun k => some (rm k)))))))]) [0] (by decide) rfl
  have h8jt := inB_nat (by decide) (show inB t (nI 0) (nI 7) = true from (Bool.and_eq_true_iff.mp (Bool.and_eq_true_iff.mp hrg).1).1)
  have h8ja := inB_nat (by decide) (show inB a (nI 0) (nI 7) = true from (Bool.and_eq_true_iff.mp (Bool.and_eq_true_iff.mp hrg).1).2)
  have h8jb := inB_nat (by decide) (show inB b (nI 0) (nI 7) = true from (Bool.and_eq_true_iff.mp hrg).2)
  obtain ⟨jt, h9jt, e8jt⟩ := h8jt
  obtain ⟨ja, h9ja, e8ja⟩ := h8ja
  obtain ⟨jb, h9jb, e8jb⟩ := h8jb
  have h7jt : jt < 8 := by omega
  subst e8jt
  have h7ja : ja < 8 := by omega
  subst e8ja
  have h7jb : jb < 8 := by omega
  subst e8jb
  have hP := hP0
  have hD := hD0
  refine va_gets (v := .ref (σ (30 + 9))) hx hb (hG.Z Z (SS.on Y 9 (by decide)).1) hS hown (hts _ q867) (fun _ h9 => h9) dX1_project_18 ?_
  refine lv_aload_n hx hb dX1_project_21 rfl (lv_at hl 0 rfl) ?_
  refine va_get (D := (dC, dI)) (ci := 3) (v := .ref (xa 3)) (C := RX1) (T := TX1) (N := 9) hx hb hts in_X1 hown hK (hR0.up hS) 0 rfl rfl 2 (by decide) (hts _ q286) (fun _ h9 => h9) rfl dX1_project_22 ?_
  refine va_getN (D := (dC, dI)) (ci := 4) (v := .ref ga) (C := RX4) (T := TX4) (N := 2) hx hb hts in_X4 hown hK (hR0.up hS) 1 rfl rfl 0 (by decide) (((va_Nw.warmF hG.1 (va_Nw.of rfl (Z.2.1 _ q240)))).use rfl) (fun _ h9 => h9) rfl dX1_project_25 ?_
  refine lv_aload_n hx hb dX1_project_28 rfl (lv_at hl 0 rfl) ?_
  refine va_get (D := (dC, dI)) (ci := 3) (v := .ref (xa 3)) (C := RX1) (T := TX1) (N := 9) hx hb hts in_X1 hown hK (hR0.up hS) 0 rfl rfl 2 (by decide) (hts _ q286) (fun _ h9 => h9) rfl dX1_project_29 ?_
  refine va_getN (D := (dC, dI)) (ci := 4) (v := .ref (xa 7)) (C := RX4) (T := TX4) (N := 2) hx hb hts in_X4 hown hK (hR0.up hS) 1 rfl rfl 1 (by decide) (((va_Nw.warmF hG.1 (va_Nw.of rfl (Z.2.1 _ q243)))).use rfl) (fun _ h9 => h9) rfl dX1_project_32 ?_
  refine lv_iload_n hx hb dX1_project_35 rfl (lv_at hl 3 rfl) ?_
  refine a_aldq hx hb hK hP 0 4 rfl rfl (by omega) (by decide) dX1_project_36 ?_
  refine e_v (y := .ref (rm jb)) (rfl) ?_
  have hR2 := hRG jb (by omega)
  have hF9 := va_free (wc := []) hD hS (fun q h => hA q h) [] rfl
  refine x_r (wc := []) (wr := [((xa 7), .inl (dA 4, 8, .inr (.inr (.inr (.inr (fun k => some (rm k)))))))]) (one_run Z Y hG hS ⟨hx, hb, hml, hown, hts⟩ (k := 9) (by decide) ga sg sr p0 q0 r0 (rm jb) (rr jb) (Ms jb) (sR jb (by omega)) (pR jb (by omega)) (hR2.to hS (fun q _ h => hF9 q h)) (hAG.to hS (fun q _ h => hF9 q h)) q747 hl.1 (Nat.le_of_ble_eq_true rfl) dX1_project_37 ⟨Nat.le_of_ble_eq_true rfl, Nat.le_of_ble_eq_true rfl⟩ ⟨by first | decide | omega | (show _ ≤ (20 : Nat); omega), by first | decide | omega | (show _ ≤ (300 : Nat); omega)⟩) hP hD hS hA [] [0] rfl rfl (by decide) (by decide) (fun E ce q9 u9 t9 H locs ht9 hp9 hb9 hz hP hS h1 h2 h3 => ?_) (fun u9 ra9 H locs hq hX hz hk_ hP hD hS => ?_)
  · have hP : va_P (dC, dI) vwCl [((xa 7), .inl (dA 4, 8, .inr (.inr (.inr (.inr (fun k => some (rm k)))))))] H := hP
    have hD : va_D A [((xa 7), .inl (dA 4, 8, .inr (.inr (.inr (.inr (fun k => some (rm k)))))))] := hD
    rcases hb9 with ⟨rfl, hxc⟩ | ⟨rfl, hxc⟩
    · subst hQe
      exact vx_outP hown hlocks (by rw [hxt]; exact (List.forall_mem_cons.mpr ⟨Or.inr ⟨by decide, "BladeAlgebra$Unfit", hts _ q468, ncZ Z hG nc_IllegalStateException_Unfit⟩, (fun _ h => nomatch h)⟩)) h1 h2 h3 (fun t10 e10 _ => ⟨(), trivial, (⟨Or.inr (Or.inr (⟨rfl, prj_i h7jt h7ja h7jb hxc⟩)), by rw [e10]; exact hP.sub (ws' := [((xa 7), .inl (dA 4, 8, .inr (.inr (.inr (.inr (fun k => some (rm k)))))))]) [0] rfl⟩ : (_ ∧ _)), hS.F e10⟩) hS.2.2 (by first | decide | omega) (by first | decide | omega)
    · refine vx_catch (name := "BladeAlgebra$Unfit") (E := "BladeAlgebra$Unfit") (ce := ce) hown [] ⟨18, 94, 95, 179⟩ [] hxt (fun _ h => nomatch h) (by decide) (by decide) (hts _ q468) (castZ Z hG q523) h1 h2 h3 ?_
      have hxU := hxc
      refine lv_astore (lv' := [(4, .ref q9), (0, .ref (xa 0)), (1, .int (nI jt)), (2, .int (nI ja)), (3, .int (nI jb))]) hx hb dX1_project_95 hl (by decide) rfl (fun ls hl => ?_)
      have hF9 := va_free (wc := []) hD hS (fun q h => hA q h) [] rfl
      refine c_r (wr := [((xa 7), .inl (dA 4, 8, .inr (.inr (.inr (.inr (fun k => some (rm k)))))))]) (va_runS (As := []) (rest := []) ⟨hx, hb, hml, hown, hts⟩ (x1_large Z (va_A [] H.size) H.size (fun q h => Or.inr h) Y) (va_cwS 0 hts (lw_S q562 q563 q96 q564) rfl rfl rfl (by decide +kernel) ⟨Nat.le_of_ble_eq_true rfl, Nat.le_of_ble_eq_true rfl⟩) (gP_S hG hS (fun q _ h => hF9 q h) rfl) rfl rfl hl.1 rfl (lv_room (Nat.le_of_ble_eq_true rfl)) dX1_project_97 ⟨by first | decide | omega | (show _ ≤ (20 : Nat); omega), by first | decide | omega | (show _ ≤ (300 : Nat); omega)⟩) hP hD hS hA [] [0] rfl rfl (by decide) (by decide) (fun u9 ra9 H locs hq hX hz hk hP hD hS => ?_)
      obtain ⟨ra_2, rfl⟩ : ∃ z, z = ra9 := ⟨_, rfl⟩
      have hP : va_P (dC, dI) vwCl [((xa 7), .inl (dA 4, 8, .inr (.inr (.inr (.inr (fun k => some (rm k))))))), (ra_2, .inr (17, []))] H := hP
      have hD : va_D A [((xa 7), .inl (dA 4, 8, .inr (.inr (.inr (.inr (fun k => some (rm k))))))), (ra_2, .inr (17, []))] := hD
      refine vx_athrow hx hb dX1_project_100 ?_
      obtain ⟨ce, h1, h2, h3⟩ := va_thr hK hP (ci := 17) (q0 := 1) rfl rfl
      subst hQe
      exact vx_outP hown hlocks (by rw [hxt]; exact (List.forall_mem_cons.mpr ⟨Or.inl (by decide), (fun _ h => nomatch h)⟩)) h1 h2 h3 (fun t10 e10 _ => ⟨(), trivial, (⟨Or.inr (Or.inl (⟨rfl, prj_x0 h7jt h7ja h7jb hxU⟩)), by rw [e10]; exact hP.sub (ws' := [((xa 7), .inl (dA 4, 8, .inr (.inr (.inr (.inr (fun k => some (rm k)))))))]) [0] rfl⟩ : (_ ∧ _)), hS.F e10⟩) hS.2.2 (by first | decide | omega) (by first | decide | omega)
  obtain ⟨ra_3, rfl⟩ : ∃ z, z = ra9 := ⟨_, rfl⟩
  obtain ⟨mr_3, M_3⟩ := u9
  have e_3 := hq
  have sm_3 : MSm M_3 := oneS_sm hn (sR jb (by omega)) e_3
  clear hq
  have hP : va_P (dC, dI) vwCl [((xa 7), .inl (dA 4, 8, .inr (.inr (.inr (.inr (fun k => some (rm k))))))), (ra_3, .inr (0, [.ref mr_3, .long (M_3 0)])), (mr_3, .inl (dA 1, 32, .inr (.inl (fun j => M_3 (j + 1)))))] H := hP
  have hD : va_D A [((xa 7), .inl (dA 4, 8, .inr (.inr (.inr (.inr (fun k => some (rm k))))))), (ra_3, .inr (0, [.ref mr_3, .long (M_3 0)])), (mr_3, .inl (dA 1, 32, .inr (.inl (fun j => M_3 (j + 1)))))] := hD
  refine lv_astore (lv' := [(4, .ref ra_3), (0, .ref (xa 0)), (1, .int (nI jt)), (2, .int (nI ja)), (3, .int (nI jb))]) hx hb dX1_project_40 hl (by decide) rfl (fun ls hl => ?_)
  refine lv_aload_n hx hb dX1_project_42 rfl (lv_at hl 1 rfl) ?_
  refine va_get (D := (dC, dI)) (ci := 3) (v := .ref (xa 3)) (C := RX1) (T := TX1) (N := 9) hx hb hts in_X1 hown hK (hR0.up hS) 0 rfl rfl 2 (by decide) (hts _ q286) (fun _ h9 => h9) rfl dX1_project_43 ?_
  refine va_getN (D := (dC, dI)) (ci := 4) (v := .ref ga) (C := RX4) (T := TX4) (N := 2) hx hb hts in_X4 hown hK (hR0.up hS) 1 rfl rfl 0 (by decide) (((va_Nw.warmF hG.1 (va_Nw.of rfl (Z.2.1 _ q240)))).use rfl) (fun _ h9 => h9) rfl dX1_project_46 ?_
  refine lv_aload_n hx hb dX1_project_49 rfl (lv_at hl 1 rfl) ?_
  refine va_get (D := (dC, dI)) (ci := 3) (v := .ref (xa 3)) (C := RX1) (T := TX1) (N := 9) hx hb hts in_X1 hown hK (hR0.up hS) 0 rfl rfl 2 (by decide) (hts _ q286) (fun _ h9 => h9) rfl dX1_project_50 ?_
  refine va_getN (D := (dC, dI)) (ci := 4) (v := .ref (xa 7)) (C := RX4) (T := TX4) (N := 2) hx hb hts in_X4 hown hK (hR0.up hS) 1 rfl rfl 1 (by decide) (((va_Nw.warmF hG.1 (va_Nw.of rfl (Z.2.1 _ q243)))).use rfl) (fun _ h9 => h9) rfl dX1_project_53 ?_
  refine lv_iload_n hx hb dX1_project_56 rfl (lv_at hl 3 rfl) ?_
  refine a_aldq hx hb hK hP 0 4 rfl rfl (by omega) (by decide) dX1_project_57 ?_
  refine e_v (y := .ref (rm ja)) (rfl) ?_
  have hR3 := hRG ja (by omega)
  refine lv_aload_n hx hb dX1_project_58 rfl (lv_at hl 1 rfl) ?_
  refine va_get (D := (dC, dI)) (ci := 3) (v := .ref (xa 3)) (C := RX1) (T := TX1) (N := 9) hx hb hts in_X1 hown hK (hR0.up hS) 0 rfl rfl 2 (by decide) (hts _ q286) (fun _ h9 => h9) rfl dX1_project_59 ?_
  refine va_getN (D := (dC, dI)) (ci := 4) (v := .ref (xa 7)) (C := RX4) (T := TX4) (N := 2) hx hb hts in_X4 hown hK (hR0.up hS) 1 rfl rfl 1 (by decide) (((va_Nw.warmF hG.1 (va_Nw.of rfl (Z.2.1 _ q243)))).use rfl) (fun _ h9 => h9) rfl dX1_project_62 ?_
  refine lv_iload_n hx hb dX1_project_65 rfl (lv_at hl 4 rfl) ?_
  refine a_aldq hx hb hK hP 0 4 rfl rfl (by omega) (by decide) dX1_project_66 ?_
  refine e_v (y := .ref (rm jb)) (rfl) ?_
  refine va_gets (v := .ref (σ (10 + 2))) hx hb (hG.Z Z (SS.pr Y 2 (by decide)).1) hS hown (hts _ q869) (fun _ h9 => h9) dX1_project_67 ?_
  have hF9 := va_free (wc := []) hD hS (fun q h => hA q h) [] rfl
  refine x_r (wc := []) (wr := [((xa 7), .inl (dA 4, 8, .inr (.inr (.inr (.inr (fun k => some (rm k))))))), (ra_3, .inr (0, [.ref mr_3, .long (M_3 0)])), (mr_3, .inl (dA 1, 32, .inr (.inl (fun j => M_3 (j + 1)))))]) (vx_runV (As := [.ref (rm ja), .ref (rm jb), .ref (σ (10 + 2))]) (rest := []) ⟨hx, hb, hml, hown, hts⟩ (x5_product Z (va_A [] H.size) H.size (fun q h => Or.inr h) Y ga sg sr p0 q0 r0 (rm ja) (rr ja) (Ms ja) (rm jb) (rr jb) (Ms jb) 2 (by omega) (sR ja (by omega)) (sR jb (by omega))) (cwV 3 hts (lw_V q870 q658 q659 q101 q660) rfl rfl rfl (by decide +kernel) ⟨Nat.le_of_ble_eq_true rfl, Nat.le_of_ble_eq_true rfl⟩) (gP_V (va_recv hK (hR1.up hS) (ci := 1) (q0 := 0) rfl rfl) hG hS (fun q _ h => hF9 q h) ⟨rfl, (hR3.to hS (fun q _ h => hF9 q h)), (hR2.to hS (fun q _ h => hF9 q h)), (hAG.to hS (fun q _ h => hF9 q h))⟩) rfl rfl hl.1 rfl (lv_room (Nat.le_of_ble_eq_true rfl)) dX1_project_70 ⟨by first | decide | omega | (show _ ≤ (20 : Nat); omega), by first | decide | omega | (show _ ≤ (300 : Nat); omega)⟩) hP hD hS hA [] [0, 1, 2] rfl rfl (by decide) (by decide) (fun E ce q9 u9 t9 H locs ht9 hp9 hb9 hz hP hS h1 h2 h3 => ?_) (fun u9 ra9 H locs hq hX hz hk hP hD hS => ?_)
  · have hD := hD.sub (ws' := [((xa 7), .inl (dA 4, 8, .inr (.inr (.inr (.inr (fun k => some (rm k))))))), (ra_3, .inr (0, [.ref mr_3, .long (M_3 0)])), (mr_3, .inl (dA 1, 32, .inr (.inl (fun j => M_3 (j + 1)))))]) [0, 1, 2] (by decide) rfl
    have hP : va_P (dC, dI) vwCl [((xa 7), .inl (dA 4, 8, .inr (.inr (.inr (.inr (fun k => some (rm k))))))), (ra_3, .inr (0, [.ref mr_3, .long (M_3 0)])), (mr_3, .inl (dA 1, 32, .inr (.inl (fun j => M_3 (j + 1)))))] H := hP
    have hD : va_D A [((xa 7), .inl (dA 4, 8, .inr (.inr (.inr (.inr (fun k => some (rm k))))))), (ra_3, .inr (0, [.ref mr_3, .long (M_3 0)])), (mr_3, .inl (dA 1, 32, .inr (.inl (fun j => M_3 (j + 1)))))] := hD
    subst hb9
    refine vx_catch (name := "BladeAlgebra$Unfit") (E := "BladeAlgebra$Unfit") (ce := ce) hown [] ⟨18, 94, 95, 179⟩ [] hxt (fun _ h => nomatch h) (by decide) (by decide) (hts _ q468) (castZ Z hG q523) h1 h2 h3 ?_
    have hpU := hp9
    refine lv_astore (lv' := [(4, .ref q9), (0, .ref (xa 0)), (1, .int (nI jt)), (2, .int (nI ja)), (3, .int (nI jb))]) hx hb dX1_project_95 hl (by decide) rfl (fun ls hl => ?_)
    have hF9 := va_free (wc := []) hD hS (fun q h => hA q h) [] rfl
    refine c_r (wr := [((xa 7), .inl (dA 4, 8, .inr (.inr (.inr (.inr (fun k => some (rm k))))))), (ra_3, .inr (0, [.ref mr_3, .long (M_3 0)])), (mr_3, .inl (dA 1, 32, .inr (.inl (fun j => M_3 (j + 1)))))]) (va_runS (As := []) (rest := []) ⟨hx, hb, hml, hown, hts⟩ (x1_large Z (va_A [] H.size) H.size (fun q h => Or.inr h) Y) (va_cwS 0 hts (lw_S q562 q563 q96 q564) rfl rfl rfl (by decide +kernel) ⟨Nat.le_of_ble_eq_true rfl, Nat.le_of_ble_eq_true rfl⟩) (gP_S hG hS (fun q _ h => hF9 q h) rfl) rfl rfl hl.1 rfl (lv_room (Nat.le_of_ble_eq_true rfl)) dX1_project_97 ⟨by first | decide | omega | (show _ ≤ (20 : Nat); omega), by first | decide | omega | (show _ ≤ (300 : Nat); omega)⟩) hP hD hS hA [] [0, 1, 2] rfl rfl (by decide) (by decide) (fun u9 ra9 H locs hq hX hz hk hP hD hS => ?_)
    obtain ⟨ra_4, rfl⟩ : ∃ z, z = ra9 := ⟨_, rfl⟩
    have hP : va_P (dC, dI) vwCl [((xa 7), .inl (dA 4, 8, .inr (.inr (.inr (.inr (fun k => some (rm k))))))), (ra_3, .inr (0, [.ref mr_3, .long (M_3 0)])), (mr_3, .inl (dA 1, 32, .inr (.inl (fun j => M_3 (j + 1))))), (ra_4, .inr (17, []))] H := hP
    have hD : va_D A [((xa 7), .inl (dA 4, 8, .inr (.inr (.inr (.inr (fun k => some (rm k))))))), (ra_3, .inr (0, [.ref mr_3, .long (M_3 0)])), (mr_3, .inl (dA 1, 32, .inr (.inl (fun j => M_3 (j + 1))))), (ra_4, .inr (17, []))] := hD
    refine vx_athrow hx hb dX1_project_100 ?_
    obtain ⟨ce, h1, h2, h3⟩ := va_thr hK hP (ci := 17) (q0 := 3) rfl rfl
    subst hQe
    exact vx_outP hown hlocks (by rw [hxt]; exact (List.forall_mem_cons.mpr ⟨Or.inl (by decide), (fun _ h => nomatch h)⟩)) h1 h2 h3 (fun t10 e10 _ => ⟨(), trivial, (⟨Or.inr (Or.inl (⟨rfl, prj_x1 h7jt h7ja h7jb e_3 hpU⟩)), by rw [e10]; exact hP.sub (ws' := [((xa 7), .inl (dA 4, 8, .inr (.inr (.inr (.inr (fun k => some (rm k)))))))]) [0] rfl⟩ : (_ ∧ _)), hS.F e10⟩) hS.2.2 (by first | decide | omega) (by first | decide | omega)
  obtain ⟨ra_5, rfl⟩ : ∃ z, z = ra9 := ⟨_, rfl⟩
  obtain ⟨mr_5, M_5⟩ := u9
  have e_5 := hq
  have sm_5 : MSm M_5 := mulS_sm (sR ja (by omega)) (sR jb (by omega)) e_5
  clear hq
  have hP : va_P (dC, dI) vwCl [((xa 7), .inl (dA 4, 8, .inr (.inr (.inr (.inr (fun k => some (rm k))))))), (ra_3, .inr (0, [.ref mr_3, .long (M_3 0)])), (mr_3, .inl (dA 1, 32, .inr (.inl (fun j => M_3 (j + 1))))), (ra_5, .inr (0, [.ref mr_5, .long (M_5 0)])), (mr_5, .inl (dA 1, 32, .inr (.inl (fun j => M_5 (j + 1)))))] H := hP
  have hD : va_D A [((xa 7), .inl (dA 4, 8, .inr (.inr (.inr (.inr (fun k => some (rm k))))))), (ra_3, .inr (0, [.ref mr_3, .long (M_3 0)])), (mr_3, .inl (dA 1, 32, .inr (.inl (fun j => M_3 (j + 1))))), (ra_5, .inr (0, [.ref mr_5, .long (M_5 0)])), (mr_5, .inl (dA 1, 32, .inr (.inl (fun j => M_5 (j + 1)))))] := hD
  refine lv_astore (lv' := [(5, .ref ra_5), (4, .ref ra_3), (0, .ref (xa 0)), (1, .int (nI jt)), (2, .int (nI ja)), (3, .int (nI jb))]) hx hb dX1_project_73 hl (by decide) rfl (fun ls hl => ?_)
  refine lv_aload_n hx hb dX1_project_75 rfl (lv_at hl 2 rfl) ?_
  refine lv_iload_n hx hb dX1_project_76 rfl (lv_at hl 3 rfl) ?_
  refine lv_aload_n hx hb dX1_project_77 rfl (lv_at hl 2 rfl) ?_
  refine va_get (D := (dC, dI)) (ci := 3) (v := .ref (xa 3)) (C := RX1) (T := TX1) (N := 9) hx hb hts in_X1 hown hK (hR0.up hS) 0 rfl rfl 2 (by decide) (hts _ q286) (fun _ h9 => h9) rfl dX1_project_78 ?_
  refine va_getN (D := (dC, dI)) (ci := 4) (v := .ref ga) (C := RX4) (T := TX4) (N := 2) hx hb hts in_X4 hown hK (hR0.up hS) 1 rfl rfl 0 (by decide) (((va_Nw.warmF hG.1 (va_Nw.of rfl (Z.2.1 _ q240)))).use rfl) (fun _ h9 => h9) rfl dX1_project_81 ?_
  refine lv_aload hx hb dX1_project_84 (lv_at hl 0 rfl) ?_
  refine lv_aload hx hb dX1_project_86 (lv_at hl 1 rfl) ?_
  have hF9 := va_free (wc := []) hD hS (fun q h => hA q h) [] rfl
  refine x_r (wc := []) (wr := [((xa 7), .inl (dA 4, 8, .inr (.inr (.inr (.inr (fun k => some (rm k))))))), (ra_3, .inr (0, [.ref mr_3, .long (M_3 0)])), (mr_3, .inl (dA 1, 32, .inr (.inl (fun j => M_3 (j + 1))))), (ra_5, .inr (0, [.ref mr_5, .long (M_5 0)])), (mr_5, .inl (dA 1, 32, .inr (.inl (fun j => M_5 (j + 1)))))]) (vx_runV (As := [.ref ra_5, .ref ra_3]) (rest := [.int (nI jt), .ref (xa 0)]) ⟨hx, hb, hml, hown, hts⟩ (x5_product2 Z (va_A [] H.size) H.size (fun q h => Or.inr h) Y ga sg sr p0 q0 r0 ra_5 mr_5 M_5 ra_3 mr_3 M_3 sm_5 sm_3) (cwV 2 hts (lw_V q859 q652 q653 q101 q654) rfl rfl rfl (by decide +kernel) ⟨Nat.le_of_ble_eq_true rfl, Nat.le_of_ble_eq_true rfl⟩) (gP_V (va_recv hK (hR1.up hS) (ci := 1) (q0 := 0) rfl rfl) hG hS (fun q _ h => hF9 q h) ⟨rfl, (RO.beside (wr := [(ra_5, .inr (0, [.ref mr_5, .long (M_5 0)])), (mr_5, .inl (dA 1, 32, .inr (.inl (fun j => M_5 (j + 1)))))]) hP hD [] [3, 4] rfl rfl (by decide)), (RO.beside (wr := [(ra_3, .inr (0, [.ref mr_3, .long (M_3 0)])), (mr_3, .inl (dA 1, 32, .inr (.inl (fun j => M_3 (j + 1)))))]) hP hD [] [1, 2] rfl rfl (by decide)), (hAG.to hS (fun q _ h => hF9 q h))⟩) rfl rfl hl.1 rfl (lv_room (Nat.le_of_ble_eq_true rfl)) dX1_project_88 ⟨by first | decide | omega | (show _ ≤ (20 : Nat); omega), by first | decide | omega | (show _ ≤ (300 : Nat); omega)⟩) hP hD hS hA [] [0, 1, 2, 3, 4] rfl rfl (by decide) (by decide) (fun E ce q9 u9 t9 H locs ht9 hp9 hb9 hz hP hS h1 h2 h3 => ?_) (fun u9 ra9 H locs hq hX hz hk hP hD hS => ?_)
  · have hD := hD.sub (ws' := [((xa 7), .inl (dA 4, 8, .inr (.inr (.inr (.inr (fun k => some (rm k))))))), (ra_3, .inr (0, [.ref mr_3, .long (M_3 0)])), (mr_3, .inl (dA 1, 32, .inr (.inl (fun j => M_3 (j + 1))))), (ra_5, .inr (0, [.ref mr_5, .long (M_5 0)])), (mr_5, .inl (dA 1, 32, .inr (.inl (fun j => M_5 (j + 1)))))]) [0, 1, 2, 3, 4] (by decide) rfl
    have hP : va_P (dC, dI) vwCl [((xa 7), .inl (dA 4, 8, .inr (.inr (.inr (.inr (fun k => some (rm k))))))), (ra_3, .inr (0, [.ref mr_3, .long (M_3 0)])), (mr_3, .inl (dA 1, 32, .inr (.inl (fun j => M_3 (j + 1))))), (ra_5, .inr (0, [.ref mr_5, .long (M_5 0)])), (mr_5, .inl (dA 1, 32, .inr (.inl (fun j => M_5 (j + 1)))))] H := hP
    have hD : va_D A [((xa 7), .inl (dA 4, 8, .inr (.inr (.inr (.inr (fun k => some (rm k))))))), (ra_3, .inr (0, [.ref mr_3, .long (M_3 0)])), (mr_3, .inl (dA 1, 32, .inr (.inl (fun j => M_3 (j + 1))))), (ra_5, .inr (0, [.ref mr_5, .long (M_5 0)])), (mr_5, .inl (dA 1, 32, .inr (.inl (fun j => M_5 (j + 1)))))] := hD
    subst hb9
    refine vx_catch (name := "BladeAlgebra$Unfit") (E := "BladeAlgebra$Unfit") (ce := ce) hown [] ⟨18, 94, 95, 179⟩ [] hxt (fun _ h => nomatch h) (by decide) (by decide) (hts _ q468) (castZ Z hG q523) h1 h2 h3 ?_
    have hpU := hp9
    refine lv_astore (lv' := [(4, .ref q9), (5, .ref ra_5), (0, .ref (xa 0)), (1, .int (nI jt)), (2, .int (nI ja)), (3, .int (nI jb))]) hx hb dX1_project_95 hl (by decide) rfl (fun ls hl => ?_)
    have hF9 := va_free (wc := []) hD hS (fun q h => hA q h) [] rfl
    refine c_r (wr := [((xa 7), .inl (dA 4, 8, .inr (.inr (.inr (.inr (fun k => some (rm k))))))), (ra_3, .inr (0, [.ref mr_3, .long (M_3 0)])), (mr_3, .inl (dA 1, 32, .inr (.inl (fun j => M_3 (j + 1))))), (ra_5, .inr (0, [.ref mr_5, .long (M_5 0)])), (mr_5, .inl (dA 1, 32, .inr (.inl (fun j => M_5 (j + 1)))))]) (va_runS (As := []) (rest := []) ⟨hx, hb, hml, hown, hts⟩ (x1_large Z (va_A [] H.size) H.size (fun q h => Or.inr h) Y) (va_cwS 0 hts (lw_S q562 q563 q96 q564) rfl rfl rfl (by decide +kernel) ⟨Nat.le_of_ble_eq_true rfl, Nat.le_of_ble_eq_true rfl⟩) (gP_S hG hS (fun q _ h => hF9 q h) rfl) rfl rfl hl.1 rfl (lv_room (Nat.le_of_ble_eq_true rfl)) dX1_project_97 ⟨by first | decide | omega | (show _ ≤ (20 : Nat); omega), by first | decide | omega | (show _ ≤ (300 : Nat); omega)⟩) hP hD hS hA [] [0, 1, 2, 3, 4] rfl rfl (by decide) (by decide) (fun u9 ra9 H locs hq hX hz hk hP hD hS => ?_)
    obtain ⟨ra_6, rfl⟩ : ∃ z, z = ra9 := ⟨_, rfl⟩
    have hP : va_P (dC, dI) vwCl [((xa 7), .inl (dA 4, 8, .inr (.inr (.inr (.inr (fun k => some (rm k))))))), (ra_3, .inr (0, [.ref mr_3, .long (M_3 0)])), (mr_3, .inl (dA 1, 32, .inr (.inl (fun j => M_3 (j + 1))))), (ra_5, .inr (0, [.ref mr_5, .long (M_5 0)])), (mr_5, .inl (dA 1, 32, .inr (.inl (fun j => M_5 (j + 1))))), (ra_6, .inr (17, []))] H := hP
    have hD : va_D A [((xa 7), .inl (dA 4, 8, .inr (.inr (.inr (.inr (fun k => some (rm k))))))), (ra_3, .inr (0, [.ref mr_3, .long (M_3 0)])), (mr_3, .inl (dA 1, 32, .inr (.inl (fun j => M_3 (j + 1))))), (ra_5, .inr (0, [.ref mr_5, .long (M_5 0)])), (mr_5, .inl (dA 1, 32, .inr (.inl (fun j => M_5 (j + 1))))), (ra_6, .inr (17, []))] := hD
    refine vx_athrow hx hb dX1_project_100 ?_
    obtain ⟨ce, h1, h2, h3⟩ := va_thr hK hP (ci := 17) (q0 := 5) rfl rfl
    subst hQe
    exact vx_outP hown hlocks (by rw [hxt]; exact (List.forall_mem_cons.mpr ⟨Or.inl (by decide), (fun _ h => nomatch h)⟩)) h1 h2 h3 (fun t10 e10 _ => ⟨(), trivial, (⟨Or.inr (Or.inl (⟨rfl, prj_x2 h7jt h7ja h7jb e_3 e_5 hpU⟩)), by rw [e10]; exact hP.sub (ws' := [((xa 7), .inl (dA 4, 8, .inr (.inr (.inr (.inr (fun k => some (rm k)))))))]) [0] rfl⟩ : (_ ∧ _)), hS.F e10⟩) hS.2.2 (by first | decide | omega) (by first | decide | omega)
  obtain ⟨ra_7, rfl⟩ : ∃ z, z = ra9 := ⟨_, rfl⟩
  obtain ⟨mr_7, M_7⟩ := u9
  have e_7 := hq
  have sm_7 : MSm M_7 := mulS_sm sm_5 sm_3 e_7
  clear hq
  have hP : va_P (dC, dI) vwCl [((xa 7), .inl (dA 4, 8, .inr (.inr (.inr (.inr (fun k => some (rm k))))))), (ra_3, .inr (0, [.ref mr_3, .long (M_3 0)])), (mr_3, .inl (dA 1, 32, .inr (.inl (fun j => M_3 (j + 1))))), (ra_5, .inr (0, [.ref mr_5, .long (M_5 0)])), (mr_5, .inl (dA 1, 32, .inr (.inl (fun j => M_5 (j + 1))))), (ra_7, .inr (0, [.ref mr_7, .long (M_7 0)])), (mr_7, .inl (dA 1, 32, .inr (.inl (fun j => M_7 (j + 1)))))] H := hP
  have hD : va_D A [((xa 7), .inl (dA 4, 8, .inr (.inr (.inr (.inr (fun k => some (rm k))))))), (ra_3, .inr (0, [.ref mr_3, .long (M_3 0)])), (mr_3, .inl (dA 1, 32, .inr (.inl (fun j => M_3 (j + 1))))), (ra_5, .inr (0, [.ref mr_5, .long (M_5 0)])), (mr_5, .inl (dA 1, 32, .inr (.inl (fun j => M_5 (j + 1))))), (ra_7, .inr (0, [.ref mr_7, .long (M_7 0)])), (mr_7, .inl (dA 1, 32, .inr (.inl (fun j => M_7 (j + 1)))))] := hD
  have hF9 := va_free (wc := [((xa 7), .inl (dA 4, 8, .inr (.inr (.inr (.inr (fun k => some (rm k)))))))]) hD hS (fun q h => hA q h) [0] rfl
  refine c_i (wr := [(ra_3, .inr (0, [.ref mr_3, .long (M_3 0)])), (mr_3, .inl (dA 1, 32, .inr (.inl (fun j => M_3 (j + 1))))), (ra_5, .inr (0, [.ref mr_5, .long (M_5 0)])), (mr_5, .inl (dA 1, 32, .inr (.inl (fun j => M_5 (j + 1))))), (ra_7, .inr (0, [.ref mr_7, .long (M_7 0)])), (mr_7, .inl (dA 1, 32, .inr (.inl (fun j => M_7 (j + 1)))))]) (va_runV (As := [.int (nI jt), .ref ra_7]) (rest := []) ⟨hx, hb, hml, hown, hts⟩ (x1_store Z (va_A [((xa 7), .inl (dA 4, 8, .inr (.inr (.inr (.inr (fun k => some (rm k)))))))] H.size) H.size (fun q h => Or.inr h) Y xa tl ec ep ga (fun k => some (rm k)) jt ra_7 mr_7 M_7 (by omega)) (cwV 2 hts (lw_V q731 q733 qs6 q96 q734) rfl rfl rfl (by decide +kernel) ⟨Nat.le_of_ble_eq_true rfl, Nat.le_of_ble_eq_true rfl⟩) (gP_V (va_recv hK (hR0.up hS) (ci := 3) (q0 := 0) rfl rfl) hG hS (fun q _ h => hF9 q h) ⟨rfl, (hP.sub (ws' := [((xa 7), .inl (dA 4, 8, .inr (.inr (.inr (.inr (fun k => some (rm k)))))))]) [0] rfl), (hD.sub (ws' := [((xa 7), .inl (dA 4, 8, .inr (.inr (.inr (.inr (fun k => some (rm k)))))))]) [0] (by decide) rfl).self, (hR0.to hS (fun q _ h => hF9 q h)), (RO.beside (wr := [(ra_7, .inr (0, [.ref mr_7, .long (M_7 0)])), (mr_7, .inl (dA 1, 32, .inr (.inl (fun j => M_7 (j + 1)))))]) hP hD [0] [5, 6] rfl rfl (by decide))⟩) rfl rfl hl.1 rfl (lv_room (Nat.le_of_ble_eq_true rfl)) dX1_project_91 ⟨by first | decide | omega | (show _ ≤ (20 : Nat); omega), by first | decide | omega | (show _ ≤ (300 : Nat); omega)⟩) hP hD hS hA [0] [1, 2, 3, 4, 5, 6] rfl rfl (by decide) (by decide) (fun r9 u9 H locs hq hX hz hk hP hD hS => ?_)
  obtain ⟨r_8, rfl⟩ : ∃ z, z = r9 := ⟨_, rfl⟩
  subst hq
  have hP : va_P (dC, dI) vwCl [(ra_3, .inr (0, [.ref mr_3, .long (M_3 0)])), (mr_3, .inl (dA 1, 32, .inr (.inl (fun j => M_3 (j + 1))))), (ra_5, .inr (0, [.ref mr_5, .long (M_5 0)])), (mr_5, .inl (dA 1, 32, .inr (.inl (fun j => M_5 (j + 1))))), (ra_7, .inr (0, [.ref mr_7, .long (M_7 0)])), (mr_7, .inl (dA 1, 32, .inr (.inl (fun j => M_7 (j + 1))))), ((xa 7), .inl (dA 4, 8, .inr (.inr (.inr (.inr (va_up (fun k => some (rm k)) jt (some ra_7)))))))] H := hP
  have hD : va_D A [(ra_3, .inr (0, [.ref mr_3, .long (M_3 0)])), (mr_3, .inl (dA 1, 32, .inr (.inl (fun j => M_3 (j + 1))))), (ra_5, .inr (0, [.ref mr_5, .long (M_5 0)])), (mr_5, .inl (dA 1, 32, .inr (.inl (fun j => M_5 (j + 1))))), (ra_7, .inr (0, [.ref mr_7, .long (M_7 0)])), (mr_7, .inl (dA 1, 32, .inr (.inl (fun j => M_7 (j + 1))))), ((xa 7), .inl (dA 4, 8, .inr (.inr (.inr (.inr (va_up (fun k => some (rm k)) jt (some ra_7)))))))] := hD
  have e8 : rg (nI jt) = jt := rg_n (by omega)
  subst hQe
  refine vx_ret ?_
  refine W.widen (k := 20) (n := 300) (by first | decide | omega) (by first | decide | omega) ?_
  exact W.iret (v := nI (trmS M_7)) hx hb hr (fun tz ht hW => ⟨⟨_, (ra_7, mr_7, M_7), rfl, ⟨prj_ok h7jt h7ja h7jb e_3 e_5 e_7, rfl⟩, B1_at ht (by rw [e8]; exact hP.sub [6] rfl) (by rw [e8]; exact hD.sub [6] (by decide) rfl) (⟨hP.sub [4, 5] rfl, Or.inl ⟨fresh_of hD hAf 6 4 rfl rfl (by decide), fresh_of hD hAf 6 5 rfl rfl (by decide)⟩⟩)⟩, hS.F ht⟩) hS.2.2 dX1_project_94
set_option maxHeartbeats 4000000 in
theorem x1_isPure {l : Launch} {dC : Nat → ClassId} {dI : Nat → Nat → Nat} {dA : Nat → ClassId} {s0 : State} {b0 : Addr} (Z : Z0 l dC dI dA s0 b0) {σ : Nat → Nat} (Y : SS (dC, dI) dA σ s0) (ma mr : Nat) (M : MV) : Met l yX1_isPure (ws_ yX1_isPure cX1_isPure 1 (some .boolean)) ({ frames := 2, cells := 0, slots := 0, locals := 120 } : Room) (gP [.ref ma] s0 (fun _ => False) (fun H => va_P (dC, dI) vwCl [(ma, .inr (0, [.ref mr, .long (M 0)])), (mr, .inl (dA 1, 32, .inr (.inl (fun j => M (j + 1)))))] H)) (vp_Si (fun r => r = bI (!mixB M))) 0 0 (fun _ => False) := by
  refine Met.ofW (cc := cX1_isPure) (maxL := 1) (ret := (some .boolean)) (by decide) rfl ?_
  intro p e s m args below meth c s₁ B hml hv
  obtain ⟨hav, hG, hP⟩ := hv
  have hx := B.exec
  have hb := B.bytes
  have hr := B.returns
  have hts := atoms_spec (ws := (ws_ yX1_isPure cX1_isPure 1 (some .boolean))) B.pre
  have hts : ∀ w ∈ lw_all, w.before _ s = true := fun w h => hts w (List.mem_cons_of_mem _ h)
  have hown : s.vm.findClass RX1 = some m.cls := findClass_of_methodNamed B.named
  have hlocks := B.notSynchronized
  have hK := hG.K Z
  have hS : va_S (fun _ => False) s.heap s.heap [] := va_S.rf
  have hl := lv_entry ([.ref ma]) (n := 1) (Nat.le_of_ble_eq_true rfl)
  rw [show entryFrame m args 1 = entryFrame m ([.ref ma] : List Value).toArray 1 from by rw [hav], lg_entry_eq]
  generalize (lg_sl ([.ref ma]) ++ List.replicate (1 - (lg_sl ([.ref ma])).length) Slot.unset).toArray = ls at hl ⊢
  have hl : lv_has ls 1 [(0, .ref ma)] := hl
  generalize hQe : MQ below _ _ s _ _ _ = Q
  change W p l e ({ frames := 2, cells := 0, slots := 0, locals := 120 } : Room) s m args below meth c s.heap [] 0 0 Q (F0 m 0 ls [])
  have hgl : ∀ x, grS M &&& x < 64 := fun x => Nat.lt_of_le_of_lt Nat.and_le_left (grN_lt M 32 (by decide))
  have hgl42 := hgl 42
  have hgl21 := hgl 21
  refine lv_aload_n hx hb dX1_isPure_0 rfl (lv_at hl 0 rfl) ?_
  obtain ⟨gr, Yg⟩ : ∃ g, SG (dC, dI) dA g s0 := ⟨_, SS.gr Y⟩
  refine s_i (va_runV (As := []) (rest := []) ⟨hx, hb, hml, hown, hts⟩ (x6_grades Z gr Yg ma mr M) (cwV 0 hts (lw_V q1027 q772 q773 q102 q774) rfl rfl rfl (by decide +kernel) ⟨Nat.le_of_ble_eq_true rfl, Nat.le_of_ble_eq_true rfl⟩) (gP_V (va_recv hK hP (ci := 0) (q0 := 0) rfl rfl) hG hS (fun q _ h => h.elim) (hP.sub (ws' := [(ma, .inr (0, [.ref mr, .long (M 0)])), (mr, .inl (dA 1, 32, .inr (.inl (fun j => M (j + 1)))))]) [0, 1] rfl)) rfl rfl hl.1 rfl (lv_room (Nat.le_of_ble_eq_true rfl)) dX1_isPure_1 ⟨by first | decide | omega | (show _ ≤ (0 : Nat); omega), by first | decide | omega | (show _ ≤ (0 : Nat); omega)⟩) ?_
  refine lv_bipush (v := nI 42) hx hb dX1_isPure_4 (by decide) ?_
  refine lv_iand hx hb dX1_isPure_6 ?_
  refine e_i (y := nI ((grS M) &&& 42)) (n_and _ _) ?_
  refine lv_if_eq (tgt := 20) hx hb dX1_isPure_7 (by decide) (fun c_7 => ?_) (fun c_7 => ?_)
  · have c_7 : ((grS M) &&& 42) = 0 := (nI_eq (a := ((grS M) &&& 42)) (b := 0) (by omega) (by omega)).mp c_7
    refine lv_iconst (v := nI 1) hx hb dX1_isPure_20 (by decide) ?_
    refine lv_goto (tgt := 25) hx hb dX1_isPure_21 (by decide) ?_
    subst hQe
    exact W.zret (v := nI 1) hx hb hr rfl (fun tz ht hW => ⟨_, rfl, (by unfold mixB; rw [decide_eq_false (p := grS M &&& 42 ≠ 0) (fun h => h c_7), Bool.and_false]; rfl), ht⟩) hS.2.2 dX1_isPure_25
  · have c_7 : ¬ ((grS M) &&& 42) = 0 := fun h => c_7 ((nI_eq (a := ((grS M) &&& 42)) (b := 0) (by omega) (by omega)).mpr h)
    refine lv_aload_n hx hb dX1_isPure_10 rfl (lv_at hl 0 rfl) ?_
    obtain ⟨gr, Yg⟩ : ∃ g, SG (dC, dI) dA g s0 := ⟨_, SS.gr Y⟩
    refine s_i (va_runV (As := []) (rest := []) ⟨hx, hb, hml, hown, hts⟩ (x6_grades Z gr Yg ma mr M) (cwV 0 hts (lw_V q1027 q772 q773 q102 q774) rfl rfl rfl (by decide +kernel) ⟨Nat.le_of_ble_eq_true rfl, Nat.le_of_ble_eq_true rfl⟩) (gP_V (va_recv hK hP (ci := 0) (q0 := 0) rfl rfl) hG hS (fun q _ h => h.elim) (hP.sub (ws' := [(ma, .inr (0, [.ref mr, .long (M 0)])), (mr, .inl (dA 1, 32, .inr (.inl (fun j => M (j + 1)))))]) [0, 1] rfl)) rfl rfl hl.1 rfl (lv_room (Nat.le_of_ble_eq_true rfl)) dX1_isPure_11 ⟨by first | decide | omega | (show _ ≤ (0 : Nat); omega), by first | decide | omega | (show _ ≤ (0 : Nat); omega)⟩) ?_
    refine lv_bipush (v := nI 21) hx hb dX1_isPure_14 (by decide) ?_
    refine lv_iand hx hb dX1_isPure_16 ?_
    refine e_i (y := nI ((grS M) &&& 21)) (n_and _ _) ?_
    refine lv_if_ne (tgt := 24) hx hb dX1_isPure_17 (by decide) (fun c_17 => ?_) (fun c_17 => ?_)
    · have c_17 : ¬ ((grS M) &&& 21) = 0 := fun h => c_17 ((nI_eq (a := ((grS M) &&& 21)) (b := 0) (by omega) (by omega)).mpr h)
      refine lv_iconst (v := nI 0) hx hb dX1_isPure_24 (by decide) ?_
      subst hQe
      exact W.zret (v := nI 0) hx hb hr rfl (fun tz ht hW => ⟨_, rfl, (by unfold mixB; rw [decide_eq_true (p := grS M &&& 42 ≠ 0) c_7, decide_eq_true (p := grS M &&& 21 ≠ 0) c_17]; rfl), ht⟩) hS.2.2 dX1_isPure_25
    · have c_17 : ((grS M) &&& 21) = 0 := (nI_eq (a := ((grS M) &&& 21)) (b := 0) (by omega) (by omega)).mp c_17
      refine lv_iconst (v := nI 1) hx hb dX1_isPure_20 (by decide) ?_
      refine lv_goto (tgt := 25) hx hb dX1_isPure_21 (by decide) ?_
      subst hQe
      exact W.zret (v := nI 1) hx hb hr rfl (fun tz ht hW => ⟨_, rfl, (by unfold mixB; rw [decide_eq_false (p := grS M &&& 21 ≠ 0) (fun h => h c_17)]; rfl), ht⟩) hS.2.2 dX1_isPure_25
set_option maxHeartbeats 4000000 in
theorem x1_sandwich {l : Launch} {dC : Nat → ClassId} {dI : Nat → Nat → Nat} {dA : Nat → ClassId} {s0 : State} {b0 : Addr} (Z : Z0 l dC dI dA s0 b0) (A : Nat → Prop) (sz : Nat) (hA : ∀ q : Nat, sz ≤ q → A q) {σ : Nat → Nat} (Y : SS (dC, dI) dA σ s0) (xa : Nat → Nat) (tl : Nat) (ec ep : Int32) (ga sg : Nat) (sr : Nat → Nat) (p0 q0 r0 : Nat) (ra : Nat) (ma mr : Nat) (M : MV) (mb nr : Nat) (N : MV) (sM : MSm M) (pM : MSp (2 ^ (p0 + q0 + r0)) M) (sN : MSm N) (pN : MSp (2 ^ (p0 + q0 + r0)) N) : vx_Met l yX1_sandwich (ws_ yX1_sandwich cX1_sandwich 4 (some (.object "BladeAlgebra$Multi"))) ({ frames := 9, cells := 8, slots := 144, locals := 540 } : Room) (gP [.ref (xa 0), .ref ma, .ref mb] s0 A (fun H => H.size = sz ∧ RO A (dC, dI) [((xa 0), .inr (3, xFs xa tl ec ep)), ((xa 3), .inr (4, [.ref ga, .ref (xa 7)]))] H ∧ RO A (dC, dI) [(ma, .inr (0, [.ref mr, .long (M 0)])), (mr, .inl (dA 1, 32, .inr (.inl (fun j => M (j + 1)))))] H ∧ RO A (dC, dI) [(mb, .inr (0, [.ref nr, .long (N 0)])), (nr, .inl (dA 1, 32, .inr (.inl (fun j => N (j + 1)))))] H ∧ AG A (dC, dI) dA ga sg sr p0 q0 r0 H)) (va_Qr (S := Nat × MV) (fun u => sndS p0 q0 r0 M N = some u.2) (B1r (dC, dI) A (fun u q => MA dA q u.1 u.2) (fun _ _ _ => True)) A) (vx_X (S := Unit) (fun _ => sndS p0 q0 r0 M N = none) (fun _ E _ _ => E = "BladeAlgebra$Unfit") A) 8 144 A := by
  refine vx_ofW (cc := cX1_sandwich) (maxL := 4) (ret := (some (.object "BladeAlgebra$Multi"))) (by decide) rfl ?_
  intro p e s m args below meth c s₁ B hml hnoH hv
  obtain ⟨hav, hG, hsz, hR0, hR1, hR2, hAG⟩ := hv
  have hx := B.exec
  have hb := B.bytes
  have hr := B.returns
  have hts := atoms_spec (ws := (ws_ yX1_sandwich cX1_sandwich 4 (some (.object "BladeAlgebra$Multi")))) B.pre
  have hts : ∀ w ∈ lw_all, w.before _ s = true := fun w h => hts w (List.mem_cons_of_mem _ h)
  have hown : s.vm.findClass RX1 = some m.cls := findClass_of_methodNamed B.named
  have hlocks := B.notSynchronized
  have hK := hG.K Z
  subst hsz
  have hS : va_S A s.heap s.heap [] := va_S.rf
  have hP : va_P (dC, dI) vwCl [] s.heap := fun k q h => by simp at h
  have hD : va_D A [] := ⟨fun i j p q h => by simp at h, fun k q h => by simp at h⟩
  have hl := lv_entry ([.ref (xa 0), .ref ma, .ref mb]) (n := 4) (Nat.le_of_ble_eq_true rfl)
  rw [show entryFrame m args 4 = entryFrame m ([.ref (xa 0), .ref ma, .ref mb] : List Value).toArray 4 from by rw [hav], lg_entry_eq]
  generalize (lg_sl ([.ref (xa 0), .ref ma, .ref mb]) ++ List.replicate (4 - (lg_sl ([.ref (xa 0), .ref ma, .ref mb])).length) Slot.unset).toArray = ls at hl ⊢
  have hl : lv_has ls 4 [(0, .ref (xa 0)), (1, .ref ma), (2, .ref mb)] := hl
  generalize hQe : vx_MQ below _ _ _ s _ _ _ = Q
  change W p l e ({ frames := 9, cells := 8, slots := 144, locals := 540 } : Room) s m args below meth c s.heap [] 0 0 Q (F0 m 0 ls [])
  have hn := hAG.1
  have h5 := pow5 hn
  have hR3 := hAG.2.1
  have hgl42 : grS M &&& 42 < 64 := Nat.lt_of_le_of_lt Nat.and_le_left (grN_lt M 32 (by decide))
  refine lv_aload_n hx hb dX1_sandwich_0 rfl (lv_at hl 1 rfl) ?_
  obtain ⟨gr, Yg⟩ : ∃ g, SG (dC, dI) dA g s0 := ⟨_, SS.gr Y⟩
  refine s_i (va_runV (As := []) (rest := []) ⟨hx, hb, hml, hown, hts⟩ (x6_grades Z gr Yg ma mr M) (cwV 0 hts (lw_V q1027 q772 q773 q102 q774) rfl rfl rfl (by decide +kernel) ⟨Nat.le_of_ble_eq_true rfl, Nat.le_of_ble_eq_true rfl⟩) (gP_V (va_recv hK (hR1.up hS) (ci := 0) (q0 := 0) rfl rfl) hG hS (fun q _ h => h.elim) ((hR1.up hS).sub (ws' := [(ma, .inr (0, [.ref mr, .long (M 0)])), (mr, .inl (dA 1, 32, .inr (.inl (fun j => M (j + 1)))))]) [0, 1] rfl)) rfl rfl hl.1 rfl (lv_room (Nat.le_of_ble_eq_true rfl)) dX1_sandwich_1 ⟨by first | decide | omega | (show _ ≤ (8 : Nat); omega), by first | decide | omega | (show _ ≤ (144 : Nat); omega)⟩) ?_
  refine lv_bipush (v := nI 42) hx hb dX1_sandwich_4 (by decide) ?_
  refine lv_iand hx hb dX1_sandwich_6 ?_
  refine e_i (y := nI ((grS M) &&& 42)) (n_and _ _) ?_
  refine lv_if_ne (tgt := 14) hx hb dX1_sandwich_7 (by decide) (fun c_7 => ?_) (fun c_7 => ?_)
  · have c_7 : ¬ ((grS M) &&& 42) = 0 := fun h => c_7 ((nI_eq (a := ((grS M) &&& 42)) (b := 0) (by omega) (by omega)).mpr h)
    refine lv_aload_n hx hb dX1_sandwich_14 rfl (lv_at hl 2 rfl) ?_
    refine lv_bipush (v := nI 42) hx hb dX1_sandwich_15 (by decide) ?_
    refine lv_bipush (v := nI 63) hx hb dX1_sandwich_17 (by decide) ?_
    obtain ⟨gr, Yg⟩ : ∃ g, SG (dC, dI) dA g s0 := ⟨_, SS.gr Y⟩
    have hF9 := va_free (wc := []) hD hS (fun q h => hA q h) [] rfl
    refine c_r (wr := []) (va_runV (As := [.int (nI 42), .int (nI 63)]) (rest := []) ⟨hx, hb, hml, hown, hts⟩ (x6_signed Z (va_A [] s.heap.size) s.heap.size (fun q h => Or.inr h) gr Yg mb nr N 42 63 sN (by decide) (by decide)) (cwV 2 hts (lw_V q756 q757 q758 q102 q759) rfl rfl rfl (by decide +kernel) ⟨Nat.le_of_ble_eq_true rfl, Nat.le_of_ble_eq_true rfl⟩) (gP_V (va_recv hK (hR2.up hS) (ci := 0) (q0 := 0) rfl rfl) hG hS (fun q _ h => hF9 q h) ⟨rfl, (hR2.to hS (fun q _ h => hF9 q h))⟩) rfl rfl hl.1 rfl (lv_room (Nat.le_of_ble_eq_true rfl)) dX1_sandwich_19 ⟨by first | decide | omega | (show _ ≤ (8 : Nat); omega), by first | decide | omega | (show _ ≤ (144 : Nat); omega)⟩) hP hD hS hA [] [] rfl rfl (by decide) (by decide) (fun u9 ra9 H locs hq hX hz hk hP hD hS => ?_)
    obtain ⟨ra_1, rfl⟩ : ∃ z, z = ra9 := ⟨_, rfl⟩
    obtain ⟨mr_1, rfl⟩ : ∃ z, z = u9 := ⟨_, rfl⟩
    have hP : va_P (dC, dI) vwCl [(ra_1, .inr (0, [.ref mr_1, .long ((redS (N 0) (sgdF 42 63 N)) 0)])), (mr_1, .inl (dA 1, 32, .inr (.inl (fun j => (redS (N 0) (sgdF 42 63 N)) (j + 1)))))] H := hP
    have hD : va_D A [(ra_1, .inr (0, [.ref mr_1, .long ((redS (N 0) (sgdF 42 63 N)) 0)])), (mr_1, .inl (dA 1, 32, .inr (.inl (fun j => (redS (N 0) (sgdF 42 63 N)) (j + 1)))))] := hD
    have hM9 : ∀ i, i < 33 → (redS (N 0) (sgdF 42 63 N)) i = (trnS 1 p0 q0 r0 N) i := sgd_tr (by decide) hn pN
    have e9 : ((redS (N 0) (sgdF 42 63 N)) 0) = ((trnS 1 p0 q0 r0 N) 0) := hM9 0 (by decide)
    rw [e9] at hP hD; clear e9
    have hP := P_L hP 1 (fun j => (trnS 1 p0 q0 r0 N) (j + 1)) rfl (fun j hj => hM9 (j + 1) (by omega))
    have hD := va_D.set (e := .inl (dA 1, 32, .inr (.inl (fun j => (trnS 1 p0 q0 r0 N) (j + 1))))) hD (p := 1) rfl
    have hP : va_P (dC, dI) vwCl [(ra_1, .inr (0, [.ref mr_1, .long ((trnS 1 p0 q0 r0 N) 0)])), (mr_1, .inl (dA 1, 32, .inr (.inl (fun j => (trnS 1 p0 q0 r0 N) (j + 1)))))] H := hP
    have hD : va_D A [(ra_1, .inr (0, [.ref mr_1, .long ((trnS 1 p0 q0 r0 N) 0)])), (mr_1, .inl (dA 1, 32, .inr (.inl (fun j => (trnS 1 p0 q0 r0 N) (j + 1)))))] := hD
    clear hM9
    refine lv_astore_n (lv' := [(3, .ref ra_1), (0, .ref (xa 0)), (1, .ref ma), (2, .ref mb)]) hx hb dX1_sandwich_22 rfl hl (by decide) rfl (fun ls hl => ?_)
    refine lv_aload_n hx hb dX1_sandwich_23 rfl (lv_at hl 1 rfl) ?_
    refine va_get (D := (dC, dI)) (ci := 3) (v := .ref (xa 3)) (C := RX1) (T := TX1) (N := 9) hx hb hts in_X1 hown hK (hR0.up hS) 0 rfl rfl 2 (by decide) (hts _ q286) (fun _ h9 => h9) rfl dX1_sandwich_24 ?_
    refine va_getN (D := (dC, dI)) (ci := 4) (v := .ref ga) (C := RX4) (T := TX4) (N := 2) hx hb hts in_X4 hown hK (hR0.up hS) 1 rfl rfl 0 (by decide) (((va_Nw.warmF hG.1 (va_Nw.of rfl (Z.2.1 _ q240)))).use rfl) (fun _ h9 => h9) rfl dX1_sandwich_27 ?_
    refine lv_aload_n hx hb dX1_sandwich_30 rfl (lv_at hl 1 rfl) ?_
    refine va_get (D := (dC, dI)) (ci := 3) (v := .ref (xa 3)) (C := RX1) (T := TX1) (N := 9) hx hb hts in_X1 hown hK (hR0.up hS) 0 rfl rfl 2 (by decide) (hts _ q286) (fun _ h9 => h9) rfl dX1_sandwich_31 ?_
    refine va_getN (D := (dC, dI)) (ci := 4) (v := .ref ga) (C := RX4) (T := TX4) (N := 2) hx hb hts in_X4 hown hK (hR0.up hS) 1 rfl rfl 0 (by decide) (((va_Nw.warmF hG.1 (va_Nw.of rfl (Z.2.1 _ q240)))).use rfl) (fun _ h9 => h9) rfl dX1_sandwich_34 ?_
    refine lv_aload_n hx hb dX1_sandwich_37 rfl (lv_at hl 2 rfl) ?_
    refine lv_aload_n hx hb dX1_sandwich_38 rfl (lv_at hl 0 rfl) ?_
    have hF9 := va_free (wc := []) hD hS (fun q h => hA q h) [] rfl
    refine x_r (wc := []) (wr := [(ra_1, .inr (0, [.ref mr_1, .long ((trnS 1 p0 q0 r0 N) 0)])), (mr_1, .inl (dA 1, 32, .inr (.inl (fun j => (trnS 1 p0 q0 r0 N) (j + 1)))))]) (vx_runV (As := [.ref ma, .ref ra_1]) (rest := [.ref ga]) ⟨hx, hb, hml, hown, hts⟩ (x5_product2 Z (va_A [] H.size) H.size (fun q h => Or.inr h) Y ga sg sr p0 q0 r0 ma mr M ra_1 mr_1 (trnS 1 p0 q0 r0 N) sM (trnS_sm hn sN)) (cwV 2 hts (lw_V q859 q652 q653 q101 q654) rfl rfl rfl (by decide +kernel) ⟨Nat.le_of_ble_eq_true rfl, Nat.le_of_ble_eq_true rfl⟩) (gP_V (va_recv hK (hR3.up hS) (ci := 1) (q0 := 0) rfl rfl) hG hS (fun q _ h => hF9 q h) ⟨rfl, (hR1.to hS (fun q _ h => hF9 q h)), (RO.beside (wr := [(ra_1, .inr (0, [.ref mr_1, .long ((trnS 1 p0 q0 r0 N) 0)])), (mr_1, .inl (dA 1, 32, .inr (.inl (fun j => (trnS 1 p0 q0 r0 N) (j + 1)))))]) hP hD [] [0, 1] rfl rfl (by decide)), (hAG.to hS (fun q _ h => hF9 q h))⟩) rfl rfl hl.1 rfl (lv_room (Nat.le_of_ble_eq_true rfl)) dX1_sandwich_39 ⟨by first | decide | omega | (show _ ≤ (8 : Nat); omega), by first | decide | omega | (show _ ≤ (144 : Nat); omega)⟩) hP hD hS hA [] [0, 1] rfl rfl (by decide) (by decide) (fun E ce q9 u9 t9 H locs ht9 hp9 hb9 hz hP hS h1 h2 h3 => ?_) (fun u9 ra9 H locs hq hX hz hk hP hD hS => ?_)
    · have hD := hD.sub (ws' := [(ra_1, .inr (0, [.ref mr_1, .long ((trnS 1 p0 q0 r0 N) 0)])), (mr_1, .inl (dA 1, 32, .inr (.inl (fun j => (trnS 1 p0 q0 r0 N) (j + 1)))))]) [0, 1] (by decide) rfl
      have hP : va_P (dC, dI) vwCl [(ra_1, .inr (0, [.ref mr_1, .long ((trnS 1 p0 q0 r0 N) 0)])), (mr_1, .inl (dA 1, 32, .inr (.inl (fun j => (trnS 1 p0 q0 r0 N) (j + 1)))))] H := hP
      have hD : va_D A [(ra_1, .inr (0, [.ref mr_1, .long ((trnS 1 p0 q0 r0 N) 0)])), (mr_1, .inl (dA 1, 32, .inr (.inl (fun j => (trnS 1 p0 q0 r0 N) (j + 1)))))] := hD
      subst hb9
      subst hQe
      exact vx_out (fun x h => (hnoH x h).elim) hlocks h1 h2 h3 (fun t10 e10 _ => ⟨(), snd_a1 c_7 hp9, rfl, hS.F e10⟩) hS.2.2 (by first | decide | omega) (by first | decide | omega)
    obtain ⟨ra_2, rfl⟩ : ∃ z, z = ra9 := ⟨_, rfl⟩
    obtain ⟨mr_2, M_2⟩ := u9
    have e_2 := hq
    have sm_2 : MSm M_2 := mulS_sm sM (trnS_sm hn sN) e_2
    clear hq
    have hP : va_P (dC, dI) vwCl [(ra_1, .inr (0, [.ref mr_1, .long ((trnS 1 p0 q0 r0 N) 0)])), (mr_1, .inl (dA 1, 32, .inr (.inl (fun j => (trnS 1 p0 q0 r0 N) (j + 1))))), (ra_2, .inr (0, [.ref mr_2, .long (M_2 0)])), (mr_2, .inl (dA 1, 32, .inr (.inl (fun j => M_2 (j + 1)))))] H := hP
    have hD : va_D A [(ra_1, .inr (0, [.ref mr_1, .long ((trnS 1 p0 q0 r0 N) 0)])), (mr_1, .inl (dA 1, 32, .inr (.inl (fun j => (trnS 1 p0 q0 r0 N) (j + 1))))), (ra_2, .inr (0, [.ref mr_2, .long (M_2 0)])), (mr_2, .inl (dA 1, 32, .inr (.inl (fun j => M_2 (j + 1)))))] := hD
    refine lv_aload_n hx hb dX1_sandwich_42 rfl (lv_at hl 2 rfl) ?_
    have hF9 := va_free (wc := []) hD hS (fun q h => hA q h) [] rfl
    refine c_r (wr := [(ra_1, .inr (0, [.ref mr_1, .long ((trnS 1 p0 q0 r0 N) 0)])), (mr_1, .inl (dA 1, 32, .inr (.inl (fun j => (trnS 1 p0 q0 r0 N) (j + 1))))), (ra_2, .inr (0, [.ref mr_2, .long (M_2 0)])), (mr_2, .inl (dA 1, 32, .inr (.inl (fun j => M_2 (j + 1)))))]) (va_runS (As := [.ref ma]) (rest := [.ref ra_2, .ref ga]) ⟨hx, hb, hml, hown, hts⟩ (x1_reverse Z (va_A [] H.size) H.size (fun q h => Or.inr h) Y p0 q0 r0 ma mr M hn sM pM) (va_cwS 1 hts (lw_S q1028 q754 q96 q755) rfl rfl rfl (by decide +kernel) ⟨Nat.le_of_ble_eq_true rfl, Nat.le_of_ble_eq_true rfl⟩) (gP_S hG hS (fun q _ h => hF9 q h) ⟨rfl, (hR1.to hS (fun q _ h => hF9 q h))⟩) rfl rfl hl.1 rfl (lv_room (Nat.le_of_ble_eq_true rfl)) dX1_sandwich_43 ⟨by first | decide | omega | (show _ ≤ (8 : Nat); omega), by first | decide | omega | (show _ ≤ (144 : Nat); omega)⟩) hP hD hS hA [] [0, 1, 2, 3] rfl rfl (by decide) (by decide) (fun u9 ra9 H locs hq hX hz hk hP hD hS => ?_)
    obtain ⟨ra_3, rfl⟩ : ∃ z, z = ra9 := ⟨_, rfl⟩
    obtain ⟨mr_3, rfl⟩ : ∃ z, z = u9 := ⟨_, rfl⟩
    have hP : va_P (dC, dI) vwCl [(ra_1, .inr (0, [.ref mr_1, .long ((trnS 1 p0 q0 r0 N) 0)])), (mr_1, .inl (dA 1, 32, .inr (.inl (fun j => (trnS 1 p0 q0 r0 N) (j + 1))))), (ra_2, .inr (0, [.ref mr_2, .long (M_2 0)])), (mr_2, .inl (dA 1, 32, .inr (.inl (fun j => M_2 (j + 1))))), (ra_3, .inr (0, [.ref mr_3, .long ((trnS 0 p0 q0 r0 M) 0)])), (mr_3, .inl (dA 1, 32, .inr (.inl (fun j => (trnS 0 p0 q0 r0 M) (j + 1)))))] H := hP
    have hD : va_D A [(ra_1, .inr (0, [.ref mr_1, .long ((trnS 1 p0 q0 r0 N) 0)])), (mr_1, .inl (dA 1, 32, .inr (.inl (fun j => (trnS 1 p0 q0 r0 N) (j + 1))))), (ra_2, .inr (0, [.ref mr_2, .long (M_2 0)])), (mr_2, .inl (dA 1, 32, .inr (.inl (fun j => M_2 (j + 1))))), (ra_3, .inr (0, [.ref mr_3, .long ((trnS 0 p0 q0 r0 M) 0)])), (mr_3, .inl (dA 1, 32, .inr (.inl (fun j => (trnS 0 p0 q0 r0 M) (j + 1)))))] := hD
    have hF9 := va_free (wc := []) hD hS (fun q h => hA q h) [] rfl
    refine x_r (wc := []) (wr := [(ra_1, .inr (0, [.ref mr_1, .long ((trnS 1 p0 q0 r0 N) 0)])), (mr_1, .inl (dA 1, 32, .inr (.inl (fun j => (trnS 1 p0 q0 r0 N) (j + 1))))), (ra_2, .inr (0, [.ref mr_2, .long (M_2 0)])), (mr_2, .inl (dA 1, 32, .inr (.inl (fun j => M_2 (j + 1))))), (ra_3, .inr (0, [.ref mr_3, .long ((trnS 0 p0 q0 r0 M) 0)])), (mr_3, .inl (dA 1, 32, .inr (.inl (fun j => (trnS 0 p0 q0 r0 M) (j + 1)))))]) (vx_runV (As := [.ref ra_2, .ref ra_3]) (rest := []) ⟨hx, hb, hml, hown, hts⟩ (x5_product2 Z (va_A [] H.size) H.size (fun q h => Or.inr h) Y ga sg sr p0 q0 r0 ra_2 mr_2 M_2 ra_3 mr_3 (trnS 0 p0 q0 r0 M) sm_2 (trnS_sm hn sM)) (cwV 2 hts (lw_V q859 q652 q653 q101 q654) rfl rfl rfl (by decide +kernel) ⟨Nat.le_of_ble_eq_true rfl, Nat.le_of_ble_eq_true rfl⟩) (gP_V (va_recv hK (hR3.up hS) (ci := 1) (q0 := 0) rfl rfl) hG hS (fun q _ h => hF9 q h) ⟨rfl, (RO.beside (wr := [(ra_2, .inr (0, [.ref mr_2, .long (M_2 0)])), (mr_2, .inl (dA 1, 32, .inr (.inl (fun j => M_2 (j + 1)))))]) hP hD [] [2, 3] rfl rfl (by decide)), (RO.beside (wr := [(ra_3, .inr (0, [.ref mr_3, .long ((trnS 0 p0 q0 r0 M) 0)])), (mr_3, .inl (dA 1, 32, .inr (.inl (fun j => (trnS 0 p0 q0 r0 M) (j + 1)))))]) hP hD [] [4, 5] rfl rfl (by decide)), (hAG.to hS (fun q _ h => hF9 q h))⟩) rfl rfl hl.1 rfl (lv_room (Nat.le_of_ble_eq_true rfl)) dX1_sandwich_46 ⟨by first | decide | omega | (show _ ≤ (8 : Nat); omega), by first | decide | omega | (show _ ≤ (144 : Nat); omega)⟩) hP hD hS hA [] [0, 1, 2, 3, 4, 5] rfl rfl (by decide) (by decide) (fun E ce q9 u9 t9 H locs ht9 hp9 hb9 hz hP hS h1 h2 h3 => ?_) (fun u9 ra9 H locs hq hX hz hk hP hD hS => ?_)
    · have hD := hD.sub (ws' := [(ra_1, .inr (0, [.ref mr_1, .long ((trnS 1 p0 q0 r0 N) 0)])), (mr_1, .inl (dA 1, 32, .inr (.inl (fun j => (trnS 1 p0 q0 r0 N) (j + 1))))), (ra_2, .inr (0, [.ref mr_2, .long (M_2 0)])), (mr_2, .inl (dA 1, 32, .inr (.inl (fun j => M_2 (j + 1))))), (ra_3, .inr (0, [.ref mr_3, .long ((trnS 0 p0 q0 r0 M) 0)])), (mr_3, .inl (dA 1, 32, .inr (.inl (fun j => (trnS 0 p0 q0 r0 M) (j + 1)))))]) [0, 1, 2, 3, 4, 5] (by decide) rfl
      have hP : va_P (dC, dI) vwCl [(ra_1, .inr (0, [.ref mr_1, .long ((trnS 1 p0 q0 r0 N) 0)])), (mr_1, .inl (dA 1, 32, .inr (.inl (fun j => (trnS 1 p0 q0 r0 N) (j + 1))))), (ra_2, .inr (0, [.ref mr_2, .long (M_2 0)])), (mr_2, .inl (dA 1, 32, .inr (.inl (fun j => M_2 (j + 1))))), (ra_3, .inr (0, [.ref mr_3, .long ((trnS 0 p0 q0 r0 M) 0)])), (mr_3, .inl (dA 1, 32, .inr (.inl (fun j => (trnS 0 p0 q0 r0 M) (j + 1)))))] H := hP
      have hD : va_D A [(ra_1, .inr (0, [.ref mr_1, .long ((trnS 1 p0 q0 r0 N) 0)])), (mr_1, .inl (dA 1, 32, .inr (.inl (fun j => (trnS 1 p0 q0 r0 N) (j + 1))))), (ra_2, .inr (0, [.ref mr_2, .long (M_2 0)])), (mr_2, .inl (dA 1, 32, .inr (.inl (fun j => M_2 (j + 1))))), (ra_3, .inr (0, [.ref mr_3, .long ((trnS 0 p0 q0 r0 M) 0)])), (mr_3, .inl (dA 1, 32, .inr (.inl (fun j => (trnS 0 p0 q0 r0 M) (j + 1)))))] := hD
      subst hb9
      subst hQe
      exact vx_out (fun x h => (hnoH x h).elim) hlocks h1 h2 h3 (fun t10 e10 _ => ⟨(), snd_b1 c_7 e_2 hp9, rfl, hS.F e10⟩) hS.2.2 (by first | decide | omega) (by first | decide | omega)
    obtain ⟨ra_4, rfl⟩ : ∃ z, z = ra9 := ⟨_, rfl⟩
    obtain ⟨mr_4, M_4⟩ := u9
    have e_4 := hq
    have sm_4 : MSm M_4 := mulS_sm sm_2 (trnS_sm hn sM) e_4
    clear hq
    have hP : va_P (dC, dI) vwCl [(ra_1, .inr (0, [.ref mr_1, .long ((trnS 1 p0 q0 r0 N) 0)])), (mr_1, .inl (dA 1, 32, .inr (.inl (fun j => (trnS 1 p0 q0 r0 N) (j + 1))))), (ra_2, .inr (0, [.ref mr_2, .long (M_2 0)])), (mr_2, .inl (dA 1, 32, .inr (.inl (fun j => M_2 (j + 1))))), (ra_3, .inr (0, [.ref mr_3, .long ((trnS 0 p0 q0 r0 M) 0)])), (mr_3, .inl (dA 1, 32, .inr (.inl (fun j => (trnS 0 p0 q0 r0 M) (j + 1))))), (ra_4, .inr (0, [.ref mr_4, .long (M_4 0)])), (mr_4, .inl (dA 1, 32, .inr (.inl (fun j => M_4 (j + 1)))))] H := hP
    have hD : va_D A [(ra_1, .inr (0, [.ref mr_1, .long ((trnS 1 p0 q0 r0 N) 0)])), (mr_1, .inl (dA 1, 32, .inr (.inl (fun j => (trnS 1 p0 q0 r0 N) (j + 1))))), (ra_2, .inr (0, [.ref mr_2, .long (M_2 0)])), (mr_2, .inl (dA 1, 32, .inr (.inl (fun j => M_2 (j + 1))))), (ra_3, .inr (0, [.ref mr_3, .long ((trnS 0 p0 q0 r0 M) 0)])), (mr_3, .inl (dA 1, 32, .inr (.inl (fun j => (trnS 0 p0 q0 r0 M) (j + 1))))), (ra_4, .inr (0, [.ref mr_4, .long (M_4 0)])), (mr_4, .inl (dA 1, 32, .inr (.inl (fun j => M_4 (j + 1)))))] := hD
    subst hQe
    refine vx_ret ?_
    refine W.widen (k := 8) (n := 144) (by first | decide | omega) (by first | decide | omega) ?_
    exact W.aret (v := .ref ra_4) hx hb hr (Or.inl ⟨_, rfl⟩) (Or.inr ⟨_, rfl⟩) (fun tz ht hW => ⟨⟨(mr_4, M_4), ra_4, rfl, snd_s1 c_7 e_2 e_4, B1r_at ht (hP.sub [6, 7] rfl) (hD.sub [6, 7] (by decide) rfl) trivial⟩, hS.F ht⟩) hS.2.2 dX1_sandwich_49
  · have c_7 : ((grS M) &&& 42) = 0 := (nI_eq (a := ((grS M) &&& 42)) (b := 0) (by omega) (by omega)).mp c_7
    refine lv_aload_n hx hb dX1_sandwich_10 rfl (lv_at hl 2 rfl) ?_
    refine lv_goto (tgt := 22) hx hb dX1_sandwich_11 (by decide) ?_
    refine lv_astore_n (lv' := [(3, .ref mb), (0, .ref (xa 0)), (1, .ref ma), (2, .ref mb)]) hx hb dX1_sandwich_22 rfl hl (by decide) rfl (fun ls hl => ?_)
    refine lv_aload_n hx hb dX1_sandwich_23 rfl (lv_at hl 1 rfl) ?_
    refine va_get (D := (dC, dI)) (ci := 3) (v := .ref (xa 3)) (C := RX1) (T := TX1) (N := 9) hx hb hts in_X1 hown hK (hR0.up hS) 0 rfl rfl 2 (by decide) (hts _ q286) (fun _ h9 => h9) rfl dX1_sandwich_24 ?_
    refine va_getN (D := (dC, dI)) (ci := 4) (v := .ref ga) (C := RX4) (T := TX4) (N := 2) hx hb hts in_X4 hown hK (hR0.up hS) 1 rfl rfl 0 (by decide) (((va_Nw.warmF hG.1 (va_Nw.of rfl (Z.2.1 _ q240)))).use rfl) (fun _ h9 => h9) rfl dX1_sandwich_27 ?_
    refine lv_aload_n hx hb dX1_sandwich_30 rfl (lv_at hl 1 rfl) ?_
    refine va_get (D := (dC, dI)) (ci := 3) (v := .ref (xa 3)) (C := RX1) (T := TX1) (N := 9) hx hb hts in_X1 hown hK (hR0.up hS) 0 rfl rfl 2 (by decide) (hts _ q286) (fun _ h9 => h9) rfl dX1_sandwich_31 ?_
    refine va_getN (D := (dC, dI)) (ci := 4) (v := .ref ga) (C := RX4) (T := TX4) (N := 2) hx hb hts in_X4 hown hK (hR0.up hS) 1 rfl rfl 0 (by decide) (((va_Nw.warmF hG.1 (va_Nw.of rfl (Z.2.1 _ q240)))).use rfl) (fun _ h9 => h9) rfl dX1_sandwich_34 ?_
    refine lv_aload_n hx hb dX1_sandwich_37 rfl (lv_at hl 2 rfl) ?_
    refine lv_aload_n hx hb dX1_sandwich_38 rfl (lv_at hl 0 rfl) ?_
    have hF9 := va_free (wc := []) hD hS (fun q h => hA q h) [] rfl
    refine x_r (wc := []) (wr := []) (vx_runV (As := [.ref ma, .ref mb]) (rest := [.ref ga]) ⟨hx, hb, hml, hown, hts⟩ (x5_product2 Z (va_A [] s.heap.size) s.heap.size (fun q h => Or.inr h) Y ga sg sr p0 q0 r0 ma mr M mb nr N sM sN) (cwV 2 hts (lw_V q859 q652 q653 q101 q654) rfl rfl rfl (by decide +kernel) ⟨Nat.le_of_ble_eq_true rfl, Nat.le_of_ble_eq_true rfl⟩) (gP_V (va_recv hK (hR3.up hS) (ci := 1) (q0 := 0) rfl rfl) hG hS (fun q _ h => hF9 q h) ⟨rfl, (hR1.to hS (fun q _ h => hF9 q h)), (hR2.to hS (fun q _ h => hF9 q h)), (hAG.to hS (fun q _ h => hF9 q h))⟩) rfl rfl hl.1 rfl (lv_room (Nat.le_of_ble_eq_true rfl)) dX1_sandwich_39 ⟨by first | decide | omega | (show _ ≤ (8 : Nat); omega), by first | decide | omega | (show _ ≤ (144 : Nat); omega)⟩) hP hD hS hA [] [] rfl rfl (by decide) (by decide) (fun E ce q9 u9 t9 H locs ht9 hp9 hb9 hz hP hS h1 h2 h3 => ?_) (fun u9 ra9 H locs hq hX hz hk hP hD hS => ?_)
    · have hD := hD.sub (ws' := []) [] (by decide) rfl
      have hP : va_P (dC, dI) vwCl [] H := hP
      have hD : va_D A [] := hD
      subst hb9
      subst hQe
      exact vx_out (fun x h => (hnoH x h).elim) hlocks h1 h2 h3 (fun t10 e10 _ => ⟨(), snd_a0 c_7 hp9, rfl, hS.F e10⟩) hS.2.2 (by first | decide | omega) (by first | decide | omega)
    obtain ⟨ra_5, rfl⟩ : ∃ z, z = ra9 := ⟨_, rfl⟩
    obtain ⟨mr_5, M_5⟩ := u9
    have e_5 := hq
    have sm_5 : MSm M_5 := mulS_sm sM sN e_5
    clear hq
    have hP : va_P (dC, dI) vwCl [(ra_5, .inr (0, [.ref mr_5, .long (M_5 0)])), (mr_5, .inl (dA 1, 32, .inr (.inl (fun j => M_5 (j + 1)))))] H := hP
    have hD : va_D A [(ra_5, .inr (0, [.ref mr_5, .long (M_5 0)])), (mr_5, .inl (dA 1, 32, .inr (.inl (fun j => M_5 (j + 1)))))] := hD
    refine lv_aload_n hx hb dX1_sandwich_42 rfl (lv_at hl 2 rfl) ?_
    have hF9 := va_free (wc := []) hD hS (fun q h => hA q h) [] rfl
    refine c_r (wr := [(ra_5, .inr (0, [.ref mr_5, .long (M_5 0)])), (mr_5, .inl (dA 1, 32, .inr (.inl (fun j => M_5 (j + 1)))))]) (va_runS (As := [.ref ma]) (rest := [.ref ra_5, .ref ga]) ⟨hx, hb, hml, hown, hts⟩ (x1_reverse Z (va_A [] H.size) H.size (fun q h => Or.inr h) Y p0 q0 r0 ma mr M hn sM pM) (va_cwS 1 hts (lw_S q1028 q754 q96 q755) rfl rfl rfl (by decide +kernel) ⟨Nat.le_of_ble_eq_true rfl, Nat.le_of_ble_eq_true rfl⟩) (gP_S hG hS (fun q _ h => hF9 q h) ⟨rfl, (hR1.to hS (fun q _ h => hF9 q h))⟩) rfl rfl hl.1 rfl (lv_room (Nat.le_of_ble_eq_true rfl)) dX1_sandwich_43 ⟨by first | decide | omega | (show _ ≤ (8 : Nat); omega), by first | decide | omega | (show _ ≤ (144 : Nat); omega)⟩) hP hD hS hA [] [0, 1] rfl rfl (by decide) (by decide) (fun u9 ra9 H locs hq hX hz hk hP hD hS => ?_)
    obtain ⟨ra_6, rfl⟩ : ∃ z, z = ra9 := ⟨_, rfl⟩
    obtain ⟨mr_6, rfl⟩ : ∃ z, z = u9 := ⟨_, rfl⟩
    have hP : va_P (dC, dI) vwCl [(ra_5, .inr (0, [.ref mr_5, .long (M_5 0)])), (mr_5, .inl (dA 1, 32, .inr (.inl (fun j => M_5 (j + 1))))), (ra_6, .inr (0, [.ref mr_6, .long ((trnS 0 p0 q0 r0 M) 0)])), (mr_6, .inl (dA 1, 32, .inr (.inl (fun j => (trnS 0 p0 q0 r0 M) (j + 1)))))] H := hP
    have hD : va_D A [(ra_5, .inr (0, [.ref mr_5, .long (M_5 0)])), (mr_5, .inl (dA 1, 32, .inr (.inl (fun j => M_5 (j + 1))))), (ra_6, .inr (0, [.ref mr_6, .long ((trnS 0 p0 q0 r0 M) 0)])), (mr_6, .inl (dA 1, 32, .inr (.inl (fun j => (trnS 0 p0 q0 r0 M) (j + 1)))))] := hD
    have hF9 := va_free (wc := []) hD hS (fun q h => hA q h) [] rfl
    refine x_r (wc := []) (wr := [(ra_5, .inr (0, [.ref mr_5, .long (M_5 0)])), (mr_5, .inl (dA 1, 32, .inr (.inl (fun j => M_5 (j + 1))))), (ra_6, .inr (0, [.ref mr_6, .long ((trnS 0 p0 q0 r0 M) 0)])), (mr_6, .inl (dA 1, 32, .inr (.inl (fun j => (trnS 0 p0 q0 r0 M) (j + 1)))))]) (vx_runV (As := [.ref ra_5, .ref ra_6]) (rest := []) ⟨hx, hb, hml, hown, hts⟩ (x5_product2 Z (va_A [] H.size) H.size (fun q h => Or.inr h) Y ga sg sr p0 q0 r0 ra_5 mr_5 M_5 ra_6 mr_6 (trnS 0 p0 q0 r0 M) sm_5 (trnS_sm hn sM)) (cwV 2 hts (lw_V q859 q652 q653 q101 q654) rfl rfl rfl (by decide +kernel) ⟨Nat.le_of_ble_eq_true rfl, Nat.le_of_ble_eq_true rfl⟩) (gP_V (va_recv hK (hR3.up hS) (ci := 1) (q0 := 0) rfl rfl) hG hS (fun q _ h => hF9 q h) ⟨rfl, (RO.beside (wr := [(ra_5, .inr (0, [.ref mr_5, .long (M_5 0)])), (mr_5, .inl (dA 1, 32, .inr (.inl (fun j => M_5 (j + 1)))))]) hP hD [] [0, 1] rfl rfl (by decide)), (RO.beside (wr := [(ra_6, .inr (0, [.ref mr_6, .long ((trnS 0 p0 q0 r0 M) 0)])), (mr_6, .inl (dA 1, 32, .inr (.inl (fun j => (trnS 0 p0 q0 r0 M) (j + 1)))))]) hP hD [] [2, 3] rfl rfl (by decide)), (hAG.to hS (fun q _ h => hF9 q h))⟩) rfl rfl hl.1 rfl (lv_room (Nat.le_of_ble_eq_true rfl)) dX1_sandwich_46 ⟨by first | decide | omega | (show _ ≤ (8 : Nat); omega), by first | decide | omega | (show _ ≤ (144 : Nat); omega)⟩) hP hD hS hA [] [0, 1, 2, 3] rfl rfl (by decide) (by decide) (fun E ce q9 u9 t9 H locs ht9 hp9 hb9 hz hP hS h1 h2 h3 => ?_) (fun u9 ra9 H locs hq hX hz hk hP hD hS => ?_)
    · have hD := hD.sub (ws' := [(ra_5, .inr (0, [.ref mr_5, .long (M_5 0)])), (mr_5, .inl (dA 1, 32, .inr (.inl (fun j => M_5 (j + 1))))), (ra_6, .inr (0, [.ref mr_6, .long ((trnS 0 p0 q0 r0 M) 0)])), (mr_6, .inl (dA 1, 32, .inr (.inl (fun j => (trnS 0 p0 q0 r0 M) (j + 1)))))]) [0, 1, 2, 3] (by decide) rfl
      have hP : va_P (dC, dI) vwCl [(ra_5, .inr (0, [.ref mr_5, .long (M_5 0)])), (mr_5, .inl (dA 1, 32, .inr (.inl (fun j => M_5 (j + 1))))), (ra_6, .inr (0, [.ref mr_6, .long ((trnS 0 p0 q0 r0 M) 0)])), (mr_6, .inl (dA 1, 32, .inr (.inl (fun j => (trnS 0 p0 q0 r0 M) (j + 1)))))] H := hP
      have hD : va_D A [(ra_5, .inr (0, [.ref mr_5, .long (M_5 0)])), (mr_5, .inl (dA 1, 32, .inr (.inl (fun j => M_5 (j + 1))))), (ra_6, .inr (0, [.ref mr_6, .long ((trnS 0 p0 q0 r0 M) 0)])), (mr_6, .inl (dA 1, 32, .inr (.inl (fun j => (trnS 0 p0 q0 r0 M) (j + 1)))))] := hD
      subst hb9
      subst hQe
      exact vx_out (fun x h => (hnoH x h).elim) hlocks h1 h2 h3 (fun t10 e10 _ => ⟨(), snd_b0 c_7 e_5 hp9, rfl, hS.F e10⟩) hS.2.2 (by first | decide | omega) (by first | decide | omega)
    obtain ⟨ra_7, rfl⟩ : ∃ z, z = ra9 := ⟨_, rfl⟩
    obtain ⟨mr_7, M_7⟩ := u9
    have e_7 := hq
    have sm_7 : MSm M_7 := mulS_sm sm_5 (trnS_sm hn sM) e_7
    clear hq
    have hP : va_P (dC, dI) vwCl [(ra_5, .inr (0, [.ref mr_5, .long (M_5 0)])), (mr_5, .inl (dA 1, 32, .inr (.inl (fun j => M_5 (j + 1))))), (ra_6, .inr (0, [.ref mr_6, .long ((trnS 0 p0 q0 r0 M) 0)])), (mr_6, .inl (dA 1, 32, .inr (.inl (fun j => (trnS 0 p0 q0 r0 M) (j + 1))))), (ra_7, .inr (0, [.ref mr_7, .long (M_7 0)])), (mr_7, .inl (dA 1, 32, .inr (.inl (fun j => M_7 (j + 1)))))] H := hP
    have hD : va_D A [(ra_5, .inr (0, [.ref mr_5, .long (M_5 0)])), (mr_5, .inl (dA 1, 32, .inr (.inl (fun j => M_5 (j + 1))))), (ra_6, .inr (0, [.ref mr_6, .long ((trnS 0 p0 q0 r0 M) 0)])), (mr_6, .inl (dA 1, 32, .inr (.inl (fun j => (trnS 0 p0 q0 r0 M) (j + 1))))), (ra_7, .inr (0, [.ref mr_7, .long (M_7 0)])), (mr_7, .inl (dA 1, 32, .inr (.inl (fun j => M_7 (j + 1)))))] := hD
    subst hQe
    refine vx_ret ?_
    refine W.widen (k := 8) (n := 144) (by first | decide | omega) (by first | decide | omega) ?_
    exact W.aret (v := .ref ra_7) hx hb hr (Or.inl ⟨_, rfl⟩) (Or.inr ⟨_, rfl⟩) (fun tz ht hW => ⟨⟨(mr_7, M_7), ra_7, rfl, snd_s0 c_7 e_5 e_7, B1r_at ht (hP.sub [4, 5] rfl) (hD.sub [4, 5] (by decide) rfl) trivial⟩, hS.F ht⟩) hS.2.2 dX1_sandwich_49
set_option maxHeartbeats 4000000 in
theorem x1_apply {l : Launch} {dC : Nat → ClassId} {dI : Nat → Nat → Nat} {dA : Nat → ClassId} {s0 : State} {b0 : Addr} (Z : Z0 l dC dI dA s0 b0) (A : Nat → Prop) (sz : Nat) (hA : ∀ q : Nat, sz ≤ q → A q) {σ : Nat → Nat} (Y : SS (dC, dI) dA σ s0) (xa : Nat → Nat) (tl : Nat) (ec ep : Int32) (ga sg : Nat) (sr : Nat → Nat) (p0 q0 r0 : Nat) (rm rr : Nat → Nat) (Ms : Nat → MV) (t a b : Int32) (sR : ∀ k, k < 8 → MSm (Ms k)) (pR : ∀ k, k < 8 → MSp (2 ^ (p0 + q0 + r0)) (Ms k)) (hAf : ∀ q, A q → q = xa 7 ∨ sz ≤ q) : vx_Met l yX1_apply (wsW_ yX1_apply cX1_apply 6 (some .int) [((37 : Nat), (89 : Nat), (90 : Nat), (179 : Nat))]) ({ frames := 11, cells := 26, slots := 400, locals := 660 } : Room) (gP [.ref (xa 0), .int t, .int a, .int b] s0 A (fun H => H.size = sz ∧ va_P (dC, dI) vwCl [((xa 7), .inl (dA 4, 8, .inr (.inr (.inr (.inr (fun k => some (rm k)))))))] H ∧ va_D A [((xa 7), .inl (dA 4, 8, .inr (.inr (.inr (.inr (fun k => some (rm k)))))))] ∧ RO A (dC, dI) [((xa 0), .inr (3, xFs xa tl ec ep)), ((xa 3), .inr (4, [.ref ga, .ref (xa 7)]))] H ∧ AG A (dC, dI) dA ga sg sr p0 q0 r0 H ∧ RG A (dC, dI) dA rm rr Ms H)) (va_Qi (S := Nat × Nat × MV) (fun r9 u => appX p0 q0 r0 Ms t a b = (nI 0, some u.2.2) ∧ r9 = nI (trmS u.2.2)) (B1 (dC, dI) A (fun u => [(xa 7, .inl (dA 4, 8, .inr (.inr (.inr (.inr (va_up (fun k => some (rm k)) (rg t) (some u.1)))))))]) (fun u H => NM (dC, dI) dA σ rm rr Ms sz u H)) A) (vx_X (S := Unit) (fun _ => True) (fun _ E _ t9 => ((E = "java/lang/IndexOutOfBoundsException" ∧ appX p0 q0 r0 Ms t a b = (nI 1, none)) ∨ (E = "java/lang/IllegalStateException" ∧ appX p0 q0 r0 Ms t a b = (nI 2, none)) ∨ (E = "java/lang/ArithmeticException" ∧ appX p0 q0 r0 Ms t a b = (nI 3, none)) ∨ (E = "java/lang/UnsupportedOperationException" ∧ appX p0 q0 r0 Ms t a b = (nI 4, none))) ∧ va_P (dC, dI) vwCl [((xa 7), .inl (dA 4, 8, .inr (.inr (.inr (.inr (fun k => some (rm k)))))))] t9.heap) A) 26 400 A := by
  refine vx_ofWH (cc := cX1_apply) (maxL := 6) (ret := (some .int)) (by decide) rfl ?_
  intro p e s m args below meth c s₁ B hml hv
  obtain ⟨hav, hG, hsz, hP, hD, hR0, hAG, hRG⟩ := hv
  have hx := B.exec
  have hb := B.bytes
  have hr := B.returns
  have hts := atoms_spec (ws := (wsW_ yX1_apply cX1_apply 6 (some .int) [((37 : Nat), (89 : Nat), (90 : Nat), (179 : Nat))])) B.pre
  have hxt : c.exceptionTable.toList = [⟨37, 89, 90, 179⟩] := vx_table (x := yX1_apply) (y := yX1_apply) B (hts _ List.mem_cons_self)
  have hts : ∀ w ∈ lw_all, w.before _ s = true := fun w h => hts w (List.mem_cons_of_mem _ h)
  have hown : s.vm.findClass RX1 = some m.cls := findClass_of_methodNamed B.named
  have hlocks := B.notSynchronized
  have hK := hG.K Z
  subst hsz
  have hS : va_S A s.heap s.heap [] := va_S.rf
  have hl := lv_entry ([.ref (xa 0), .int t, .int a, .int b]) (n := 6) (Nat.le_of_ble_eq_true rfl)
  rw [show entryFrame m args 6 = entryFrame m ([.ref (xa 0), .int t, .int a, .int b] : List Value).toArray 6 from by rw [hav], lg_entry_eq]
  generalize (lg_sl ([.ref (xa 0), .int t, .int a, .int b]) ++ List.replicate (6 - (lg_sl ([.ref (xa 0), .int t, .int a, .int b])).length) Slot.unset).toArray = ls at hl ⊢
  have hl : lv_has ls 6 [(0, .ref (xa 0)), (1, .int t), (2, .int a), (3, .int b)] := hl
  generalize hQe : vx_MQ below _ _ _ s _ _ _ = Q
  change W p l e ({ frames := 11, cells := 26, slots := 400, locals := 660 } : Room) s m args below meth c s.heap [] 0 0 Q (F0 m 0 ls [])
  have hn := hAG.1
  have h5 := pow5 hn
  have hR1 := hAG.2.1
  refine lv_iconst (v := nI 3) hx hb dX1_apply_0 (by decide) ?_
  refine a_newa (D := (dC, dI)) (atype := .int) (N' := 3) (a0 := (3, .inl (fun _ => 0))) hx hb (hts _ q230) rfl hK hP hD hS hA 0 rfl (fun _ => ra_int) (fun _ => rfl) (by decide) (by decide) (by decide) (by first | decide | omega) (by first | decide | omega) dX1_apply_1 (fun na_1 H locs hP hD hS => ?_)
  have hP : va_P (dC, dI) vwCl [((xa 7), .inl (dA 4, 8, .inr (.inr (.inr (.inr (fun k => some (rm k))))))), (na_1, .inl (dA 0, 3, .inl (fun _ => 0)))] H := hP
  have hD : va_D A [((xa 7), .inl (dA 4, 8, .inr (.inr (.inr (.inr (fun k => some (rm k))))))), (na_1, .inl (dA 0, 3, .inl (fun _ => 0)))] := hD
  refine lv_dup hx hb dX1_apply_3 rfl ?_
  refine lv_iconst (v := nI 0) hx hb dX1_apply_4 (by decide) ?_
  refine lv_iload_n hx hb dX1_apply_5 rfl (lv_at hl 1 rfl) ?_
  refine a_iast hx hb hK hP hD hS 1 0 rfl rfl (by omega) (by omega) dX1_apply_6 (fun H locs hP hD hS => ?_)
  have hP : va_P (dC, dI) vwCl [((xa 7), .inl (dA 4, 8, .inr (.inr (.inr (.inr (fun k => some (rm k))))))), (na_1, .inl (dA 0, 3, .inl (upd (fun _ => 0) 0 t)))] H := hP
  have hD : va_D A [((xa 7), .inl (dA 4, 8, .inr (.inr (.inr (.inr (fun k => some (rm k))))))), (na_1, .inl (dA 0, 3, .inl (upd (fun _ => 0) 0 t)))] := hD
  refine lv_dup hx hb dX1_apply_7 rfl ?_
  refine lv_iconst (v := nI 1) hx hb dX1_apply_8 (by decide) ?_
  refine lv_iload_n hx hb dX1_apply_9 rfl (lv_at hl 2 rfl) ?_
  refine a_iast hx hb hK hP hD hS 1 0 rfl rfl (by omega) (by omega) dX1_apply_10 (fun H locs hP hD hS => ?_)
  have hP : va_P (dC, dI) vwCl [((xa 7), .inl (dA 4, 8, .inr (.inr (.inr (.inr (fun k => some (rm k))))))), (na_1, .inl (dA 0, 3, .inl (upd (upd (fun _ => 0) 0 t) 1 a)))] H := hP
  have hD : va_D A [((xa 7), .inl (dA 4, 8, .inr (.inr (.inr (.inr (fun k => some (rm k))))))), (na_1, .inl (dA 0, 3, .inl (upd (upd (fun _ => 0) 0 t) 1 a)))] := hD
  refine lv_dup hx hb dX1_apply_11 rfl ?_
  refine lv_iconst (v := nI 2) hx hb dX1_apply_12 (by decide) ?_
  refine lv_iload_n hx hb dX1_apply_13 rfl (lv_at hl 3 rfl) ?_
  refine a_iast hx hb hK hP hD hS 1 0 rfl rfl (by omega) (by omega) dX1_apply_14 (fun H locs hP hD hS => ?_)
  have hP : va_P (dC, dI) vwCl [((xa 7), .inl (dA 4, 8, .inr (.inr (.inr (.inr (fun k => some (rm k))))))), (na_1, .inl (dA 0, 3, .inl (upd (upd (upd (fun _ => 0) 0 t) 1 a) 2 b)))] H := hP
  have hD : va_D A [((xa 7), .inl (dA 4, 8, .inr (.inr (.inr (.inr (fun k => some (rm k))))))), (na_1, .inl (dA 0, 3, .inl (upd (upd (upd (fun _ => 0) 0 t) 1 a) 2 b)))] := hD
  have hF9 := va_free (wc := []) hD hS (fun q h => hA q h) [] rfl
  refine x_v (wc := []) (wr := [((xa 7), .inl (dA 4, 8, .inr (.inr (.inr (.inr (fun k => some (rm k))))))), (na_1, .inl (dA 0, 3, .inl (upd (upd (upd (fun _ => 0) 0 t) 1 a) 2 b)))]) (vx_runS (As := [.ref na_1]) (rest := []) ⟨hx, hb, hml, hown, hts⟩ (x1_registers Z (va_A [] H.size) H.size (fun q h => Or.inr h) Y na_1 3 (upd (upd (upd (fun _ => 0) 0 t) 1 a) 2 b) (by decide)) (va_cwS 1 hts (lw_S q469 q470 q96 q471) rfl rfl rfl (by decide +kernel) ⟨Nat.le_of_ble_eq_true rfl, Nat.le_of_ble_eq_true rfl⟩) (gP_S hG hS (fun q _ h => hF9 q h) ⟨rfl, (RO.beside (wr := [(na_1, .inl (dA 0, 3, .inl (upd (upd (upd (fun _ => 0) 0 t) 1 a) 2 b)))]) hP hD [] [1] rfl rfl (by decide))⟩) rfl rfl hl.1 rfl (lv_room (Nat.le_of_ble_eq_true rfl)) dX1_apply_15 ⟨by first | decide | omega | (show _ ≤ (26 : Nat); omega), by first | decide | omega | (show _ ≤ (400 : Nat); omega)⟩) hP hD hS hA [] [0, 1] rfl rfl (by decide) (by decide) (fun E ce q9 u9 t9 H locs ht9 hp9 hb9 hz hP hS h1 h2 h3 => ?_) (fun u9 H locs hq hX hz hk hP hD hS => ?_)
  · have hD := hD.sub (ws' := [((xa 7), .inl (dA 4, 8, .inr (.inr (.inr (.inr (fun k => some (rm k))))))), (na_1, .inl (dA 0, 3, .inl (upd (upd (upd (fun _ => 0) 0 t) 1 a) 2 b)))]) [0, 1] (by decide) rfl
    have hP : va_P (dC, dI) vwCl [((xa 7), .inl (dA 4, 8, .inr (.inr (.inr (.inr (fun k => some (rm k))))))), (na_1, .inl (dA 0, 3, .inl (upd (upd (upd (fun _ => 0) 0 t) 1 a) 2 b)))] H := hP
    have hD : va_D A [((xa 7), .inl (dA 4, 8, .inr (.inr (.inr (.inr (fun k => some (rm k))))))), (na_1, .inl (dA 0, 3, .inl (upd (upd (upd (fun _ => 0) 0 t) 1 a) 2 b)))] := hD
    subst hb9
    subst hQe
    exact vx_outP hown hlocks (by rw [hxt]; exact (List.forall_mem_cons.mpr ⟨Or.inl (by decide), (fun _ h => nomatch h)⟩)) h1 h2 h3 (fun t10 e10 _ => ⟨(), trivial, (⟨Or.inl (⟨rfl, app_1 (rgs3.symm.trans hp9)⟩), by rw [e10]; exact hP.sub (ws' := [((xa 7), .inl (dA 4, 8, .inr (.inr (.inr (.inr (fun k => some (rm k)))))))]) [0] rfl⟩ : (_ ∧ _)), hS.F e10⟩) hS.2.2 (by first | decide | omega) (by first | decide | omega)
  have hrg : (rgB t && rgB a && rgB b) = true := rgs3.symm.trans hq
  clear hq
  have hP : va_P (dC, dI) vwCl [((xa 7), .inl (dA 4, 8, .inr (.inr (.inr (.inr (fun k => some (rm k))))))), (na_1, .inl (dA 0, 3, .inl (upd (upd (upd (fun _ => 0) 0 t) 1 a) 2 b)))] H := hP
  have hD : va_D A [((xa 7), .inl (dA 4, 8, .inr (.inr (.inr (.inr (fun k => some (rm k))))))), (na_1, .inl (dA 0, 3, .inl (upd (upd (upd (fun _ => 0) 0 t) 1 a) 2 b)))] := hD
  have hP0 := hP.sub (ws' := [((xa 7), .inl (dA 4, 8, .inr (.inr (.inr (.inr (fun k => some (rm k)))))))]) [0] rfl
  have hD0 := hD.sub (ws' := [((xa 7), .inl (dA 4, 8, .inr (.inr (.inr (.inr (fun k => some (rm k)))))))]) [0] (by decide) rfl
  have h8jt := inB_nat (by decide) (show inB t (nI 0) (nI 7) = true from (Bool.and_eq_true_iff.mp (Bool.and_eq_true_iff.mp hrg).1).1)
  have h8ja := inB_nat (by decide) (show inB a (nI 0) (nI 7) = true from (Bool.and_eq_true_iff.mp (Bool.and_eq_true_iff.mp hrg).1).2)
  have h8jb := inB_nat (by decide) (show inB b (nI 0) (nI 7) = true from (Bool.and_eq_true_iff.mp hrg).2)
  obtain ⟨jt, h9jt, e8jt⟩ := h8jt
  obtain ⟨ja, h9ja, e8ja⟩ := h8ja
  obtain ⟨jb, h9jb, e8jb⟩ := h8jb
  have h7jt : jt < 8 := by omega
  subst e8jt
  have h7ja : ja < 8 := by omega
  subst e8ja
  have h7jb : jb < 8 := by omega
  subst e8jb
  have hP := hP0
  have hD := hD0
  refine lv_aload_n hx hb dX1_apply_18 rfl (lv_at hl 0 rfl) ?_
  refine va_get (D := (dC, dI)) (ci := 3) (v := .ref (xa 3)) (C := RX1) (T := TX1) (N := 9) hx hb hts in_X1 hown hK (hR0.up hS) 0 rfl rfl 2 (by decide) (hts _ q286) (fun _ h9 => h9) rfl dX1_apply_19 ?_
  refine va_getN (D := (dC, dI)) (ci := 4) (v := .ref (xa 7)) (C := RX4) (T := TX4) (N := 2) hx hb hts in_X4 hown hK (hR0.up hS) 1 rfl rfl 1 (by decide) (((va_Nw.warmF hG.1 (va_Nw.of rfl (Z.2.1 _ q243)))).use rfl) (fun _ h9 => h9) rfl dX1_apply_22 ?_
  refine lv_iload_n hx hb dX1_apply_25 rfl (lv_at hl 2 rfl) ?_
  refine a_aldq hx hb hK hP 0 4 rfl rfl (by omega) (by decide) dX1_apply_26 ?_
  refine e_v (y := .ref (rm ja)) (rfl) ?_
  have hR2 := hRG ja (by omega)
  refine lv_astore (lv' := [(4, .ref (rm ja)), (0, .ref (xa 0)), (1, .int (nI jt)), (2, .int (nI ja)), (3, .int (nI jb))]) hx hb dX1_apply_27 hl (by decide) rfl (fun ls hl => ?_)
  refine lv_aload hx hb dX1_apply_29 (lv_at hl 0 rfl) ?_
  refine s_i (va_runS (As := [.ref (rm ja)]) (rest := []) ⟨hx, hb, hml, hown, hts⟩ (x1_isPure Z Y (rm ja) (rr ja) (Ms ja)) (va_cwS 1 hts (lw_S q1024 q1025 q96 q1026) rfl rfl rfl (by decide +kernel) ⟨Nat.le_of_ble_eq_true rfl, Nat.le_of_ble_eq_true rfl⟩) (gP_S hG hS (fun q _ h => h.elim) ((hR2.up hS).sub (ws' := [((rm ja), .inr (0, [.ref (rr ja), .long (Ms ja 0)])), ((rr ja), .inl (dA 1, 32, .inr (.inl (fun j => Ms ja (j + 1)))))]) [0, 1] rfl)) rfl rfl hl.1 rfl (lv_room (Nat.le_of_ble_eq_true rfl)) dX1_apply_31 ⟨by first | decide | omega | (show _ ≤ (26 : Nat); omega), by first | decide | omega | (show _ ≤ (400 : Nat); omega)⟩) ?_
  have hF9 := va_free (wc := []) hD hS (fun q h => hA q h) [] rfl
  refine x_v (wc := []) (wr := [((xa 7), .inl (dA 4, 8, .inr (.inr (.inr (.inr (fun k => some (rm k)))))))]) (vx_runS (As := [.int (bI (!mixB (Ms ja)))]) (rest := []) ⟨hx, hb, hml, hown, hts⟩ (x1_possible Z (va_A [] H.size) H.size (fun q h => Or.inr h) (SS.st Y) (σ 52) (SS.st2 Y) (!mixB (Ms ja))) (va_cwS 1 hts (lw_S q891 q776 q96 q777) rfl rfl rfl (by decide +kernel) ⟨Nat.le_of_ble_eq_true rfl, Nat.le_of_ble_eq_true rfl⟩) (gP_S hG hS (fun q _ h => hF9 q h) rfl) rfl rfl hl.1 rfl (lv_room (Nat.le_of_ble_eq_true rfl)) dX1_apply_34 ⟨by first | decide | omega | (show _ ≤ (26 : Nat); omega), by first | decide | omega | (show _ ≤ (400 : Nat); omega)⟩) hP hD hS hA [] [0] rfl rfl (by decide) (by decide) (fun E ce q9 u9 t9 H locs ht9 hp9 hb9 hz hP hS h1 h2 h3 => ?_) (fun u9 H locs hq hX hz hk hP hD hS => ?_)
  · have hD := hD.sub (ws' := [((xa 7), .inl (dA 4, 8, .inr (.inr (.inr (.inr (fun k => some (rm k)))))))]) [0] (by decide) rfl
    have hP : va_P (dC, dI) vwCl [((xa 7), .inl (dA 4, 8, .inr (.inr (.inr (.inr (fun k => some (rm k)))))))] H := hP
    have hD : va_D A [((xa 7), .inl (dA 4, 8, .inr (.inr (.inr (.inr (fun k => some (rm k)))))))] := hD
    subst hb9
    subst hQe
    exact vx_outP hown hlocks (by rw [hxt]; exact (List.forall_mem_cons.mpr ⟨Or.inl (by decide), (fun _ h => nomatch h)⟩)) h1 h2 h3 (fun t10 e10 _ => ⟨(), trivial, (⟨Or.inr (Or.inl (⟨rfl, app_i h7jt h7ja h7jb (mix_t hp9)⟩)), by rw [e10]; exact hP.sub (ws' := [((xa 7), .inl (dA 4, 8, .inr (.inr (.inr (.inr (fun k => some (rm k)))))))]) [0] rfl⟩ : (_ ∧ _)), hS.F e10⟩) hS.2.2 (by first | decide | omega) (by first | decide | omega)
  have hg34 : (!mixB (Ms ja)) = true := hq
  clear hq
  have hP : va_P (dC, dI) vwCl [((xa 7), .inl (dA 4, 8, .inr (.inr (.inr (.inr (fun k => some (rm k)))))))] H := hP
  have hD : va_D A [((xa 7), .inl (dA 4, 8, .inr (.inr (.inr (.inr (fun k => some (rm k)))))))] := hD
  refine lv_aload_n hx hb dX1_apply_37 rfl (lv_at hl 1 rfl) ?_
  refine va_get (D := (dC, dI)) (ci := 3) (v := .ref (xa 3)) (C := RX1) (T := TX1) (N := 9) hx hb hts in_X1 hown hK (hR0.up hS) 0 rfl rfl 2 (by decide) (hts _ q286) (fun _ h9 => h9) rfl dX1_apply_38 ?_
  refine va_getN (D := (dC, dI)) (ci := 4) (v := .ref ga) (C := RX4) (T := TX4) (N := 2) hx hb hts in_X4 hown hK (hR0.up hS) 1 rfl rfl 0 (by decide) (((va_Nw.warmF hG.1 (va_Nw.of rfl (Z.2.1 _ q240)))).use rfl) (fun _ h9 => h9) rfl dX1_apply_41 ?_
  refine lv_aload hx hb dX1_apply_44 (lv_at hl 0 rfl) ?_
  refine lv_aload hx hb dX1_apply_46 (lv_at hl 0 rfl) ?_
  have hF9 := va_free (wc := []) hD hS (fun q h => hA q h) [] rfl
  refine c_r (wr := [((xa 7), .inl (dA 4, 8, .inr (.inr (.inr (.inr (fun k => some (rm k)))))))]) (va_runS (As := [.ref (rm ja)]) (rest := [.ref (rm ja), .ref ga]) ⟨hx, hb, hml, hown, hts⟩ (x1_reverse Z (va_A [] H.size) H.size (fun q h => Or.inr h) Y p0 q0 r0 (rm ja) (rr ja) (Ms ja) hn (sR ja (by omega)) (pR ja (by omega))) (va_cwS 1 hts (lw_S q1028 q754 q96 q755) rfl rfl rfl (by decide +kernel) ⟨Nat.le_of_ble_eq_true rfl, Nat.le_of_ble_eq_true rfl⟩) (gP_S hG hS (fun q _ h => hF9 q h) ⟨rfl, (hR2.to hS (fun q _ h => hF9 q h))⟩) rfl rfl hl.1 rfl (lv_room (Nat.le_of_ble_eq_true rfl)) dX1_apply_48 ⟨by first | decide | omega | (show _ ≤ (26 : Nat); omega), by first | decide | omega | (show _ ≤ (400 : Nat); omega)⟩) hP hD hS hA [] [0] rfl rfl (by decide) (by decide) (fun u9 ra9 H locs hq hX hz hk hP hD hS => ?_)
  obtain ⟨ra_2, rfl⟩ : ∃ z, z = ra9 := ⟨_, rfl⟩
  obtain ⟨mr_2, rfl⟩ : ∃ z, z = u9 := ⟨_, rfl⟩
  have hP : va_P (dC, dI) vwCl [((xa 7), .inl (dA 4, 8, .inr (.inr (.inr (.inr (fun k => some (rm k))))))), (ra_2, .inr (0, [.ref mr_2, .long ((trnS 0 p0 q0 r0 (Ms ja)) 0)])), (mr_2, .inl (dA 1, 32, .inr (.inl (fun j => (trnS 0 p0 q0 r0 (Ms ja)) (j + 1)))))] H := hP
  have hD : va_D A [((xa 7), .inl (dA 4, 8, .inr (.inr (.inr (.inr (fun k => some (rm k))))))), (ra_2, .inr (0, [.ref mr_2, .long ((trnS 0 p0 q0 r0 (Ms ja)) 0)])), (mr_2, .inl (dA 1, 32, .inr (.inl (fun j => (trnS 0 p0 q0 r0 (Ms ja)) (j + 1)))))] := hD
  have hF9 := va_free (wc := []) hD hS (fun q h => hA q h) [] rfl
  refine x_r (wc := []) (wr := [((xa 7), .inl (dA 4, 8, .inr (.inr (.inr (.inr (fun k => some (rm k))))))), (ra_2, .inr (0, [.ref mr_2, .long ((trnS 0 p0 q0 r0 (Ms ja)) 0)])), (mr_2, .inl (dA 1, 32, .inr (.inl (fun j => (trnS 0 p0 q0 r0 (Ms ja)) (j + 1)))))]) (vx_runV (As := [.ref (rm ja), .ref ra_2]) (rest := []) ⟨hx, hb, hml, hown, hts⟩ (x5_product2 Z (va_A [] H.size) H.size (fun q h => Or.inr h) Y ga sg sr p0 q0 r0 (rm ja) (rr ja) (Ms ja) ra_2 mr_2 (trnS 0 p0 q0 r0 (Ms ja)) (sR ja (by omega)) (trnS_sm hn (sR ja (by omega)))) (cwV 2 hts (lw_V q859 q652 q653 q101 q654) rfl rfl rfl (by decide +kernel) ⟨Nat.le_of_ble_eq_true rfl, Nat.le_of_ble_eq_true rfl⟩) (gP_V (va_recv hK (hR1.up hS) (ci := 1) (q0 := 0) rfl rfl) hG hS (fun q _ h => hF9 q h) ⟨rfl, (hR2.to hS (fun q _ h => hF9 q h)), (RO.beside (wr := [(ra_2, .inr (0, [.ref mr_2, .long ((trnS 0 p0 q0 r0 (Ms ja)) 0)])), (mr_2, .inl (dA 1, 32, .inr (.inl (fun j => (trnS 0 p0 q0 r0 (Ms ja)) (j + 1)))))]) hP hD [] [1, 2] rfl rfl (by decide)), (hAG.to hS (fun q _ h => hF9 q h))⟩) rfl rfl hl.1 rfl (lv_room (Nat.le_of_ble_eq_true rfl)) dX1_apply_51 ⟨by first | decide | omega | (show _ ≤ (26 : Nat); omega), by first | decide | omega | (show _ ≤ (400 : Nat); omega)⟩) hP hD hS hA [] [0, 1, 2] rfl rfl (by decide) (by decide) (fun E ce q9 u9 t9 H locs ht9 hp9 hb9 hz hP hS h1 h2 h3 => ?_) (fun u9 ra9 H locs hq hX hz hk hP hD hS => ?_)
  · have hD := hD.sub (ws' := [((xa 7), .inl (dA 4, 8, .inr (.inr (.inr (.inr (fun k => some (rm k))))))), (ra_2, .inr (0, [.ref mr_2, .long ((trnS 0 p0 q0 r0 (Ms ja)) 0)])), (mr_2, .inl (dA 1, 32, .inr (.inl (fun j => (trnS 0 p0 q0 r0 (Ms ja)) (j + 1)))))]) [0, 1, 2] (by decide) rfl
    have hP : va_P (dC, dI) vwCl [((xa 7), .inl (dA 4, 8, .inr (.inr (.inr (.inr (fun k => some (rm k))))))), (ra_2, .inr (0, [.ref mr_2, .long ((trnS 0 p0 q0 r0 (Ms ja)) 0)])), (mr_2, .inl (dA 1, 32, .inr (.inl (fun j => (trnS 0 p0 q0 r0 (Ms ja)) (j + 1)))))] H := hP
    have hD : va_D A [((xa 7), .inl (dA 4, 8, .inr (.inr (.inr (.inr (fun k => some (rm k))))))), (ra_2, .inr (0, [.ref mr_2, .long ((trnS 0 p0 q0 r0 (Ms ja)) 0)])), (mr_2, .inl (dA 1, 32, .inr (.inl (fun j => (trnS 0 p0 q0 r0 (Ms ja)) (j + 1)))))] := hD
    subst hb9
    refine vx_catch (name := "BladeAlgebra$Unfit") (E := "BladeAlgebra$Unfit") (ce := ce) hown [] ⟨37, 89, 90, 179⟩ [] hxt (fun _ h => nomatch h) (by decide) (by decide) (hts _ q468) (castZ Z hG q523) h1 h2 h3 ?_
    have hpU := hp9
    refine lv_astore (lv' := [(5, .ref q9), (4, .ref (rm ja)), (0, .ref (xa 0)), (1, .int (nI jt)), (2, .int (nI ja)), (3, .int (nI jb))]) hx hb dX1_apply_90 hl (by decide) rfl (fun ls hl => ?_)
    have hF9 := va_free (wc := []) hD hS (fun q h => hA q h) [] rfl
    refine c_r (wr := [((xa 7), .inl (dA 4, 8, .inr (.inr (.inr (.inr (fun k => some (rm k))))))), (ra_2, .inr (0, [.ref mr_2, .long ((trnS 0 p0 q0 r0 (Ms ja)) 0)])), (mr_2, .inl (dA 1, 32, .inr (.inl (fun j => (trnS 0 p0 q0 r0 (Ms ja)) (j + 1)))))]) (va_runS (As := []) (rest := []) ⟨hx, hb, hml, hown, hts⟩ (x1_large Z (va_A [] H.size) H.size (fun q h => Or.inr h) Y) (va_cwS 0 hts (lw_S q562 q563 q96 q564) rfl rfl rfl (by decide +kernel) ⟨Nat.le_of_ble_eq_true rfl, Nat.le_of_ble_eq_true rfl⟩) (gP_S hG hS (fun q _ h => hF9 q h) rfl) rfl rfl hl.1 rfl (lv_room (Nat.le_of_ble_eq_true rfl)) dX1_apply_92 ⟨by first | decide | omega | (show _ ≤ (26 : Nat); omega), by first | decide | omega | (show _ ≤ (400 : Nat); omega)⟩) hP hD hS hA [] [0, 1, 2] rfl rfl (by decide) (by decide) (fun u9 ra9 H locs hq hX hz hk hP hD hS => ?_)
    obtain ⟨ra_3, rfl⟩ : ∃ z, z = ra9 := ⟨_, rfl⟩
    have hP : va_P (dC, dI) vwCl [((xa 7), .inl (dA 4, 8, .inr (.inr (.inr (.inr (fun k => some (rm k))))))), (ra_2, .inr (0, [.ref mr_2, .long ((trnS 0 p0 q0 r0 (Ms ja)) 0)])), (mr_2, .inl (dA 1, 32, .inr (.inl (fun j => (trnS 0 p0 q0 r0 (Ms ja)) (j + 1))))), (ra_3, .inr (17, []))] H := hP
    have hD : va_D A [((xa 7), .inl (dA 4, 8, .inr (.inr (.inr (.inr (fun k => some (rm k))))))), (ra_2, .inr (0, [.ref mr_2, .long ((trnS 0 p0 q0 r0 (Ms ja)) 0)])), (mr_2, .inl (dA 1, 32, .inr (.inl (fun j => (trnS 0 p0 q0 r0 (Ms ja)) (j + 1))))), (ra_3, .inr (17, []))] := hD
    refine vx_athrow hx hb dX1_apply_95 ?_
    obtain ⟨ce, h1, h2, h3⟩ := va_thr hK hP (ci := 17) (q0 := 3) rfl rfl
    subst hQe
    exact vx_outP hown hlocks (by rw [hxt]; exact (List.forall_mem_cons.mpr ⟨Or.inl (by decide), (fun _ h => nomatch h)⟩)) h1 h2 h3 (fun t10 e10 _ => ⟨(), trivial, (⟨Or.inr (Or.inr (Or.inl (⟨rfl, app_x0 h7jt h7ja h7jb (mix_f hg34) hpU⟩))), by rw [e10]; exact hP.sub (ws' := [((xa 7), .inl (dA 4, 8, .inr (.inr (.inr (.inr (fun k => some (rm k)))))))]) [0] rfl⟩ : (_ ∧ _)), hS.F e10⟩) hS.2.2 (by first | decide | omega) (by first | decide | omega)
  obtain ⟨ra_4, rfl⟩ : ∃ z, z = ra9 := ⟨_, rfl⟩
  obtain ⟨mr_4, M_4⟩ := u9
  have e_4 := hq
  have sm_4 : MSm M_4 := mulS_sm (sR ja (by omega)) (trnS_sm hn (sR ja (by omega))) e_4
  clear hq
  have hP : va_P (dC, dI) vwCl [((xa 7), .inl (dA 4, 8, .inr (.inr (.inr (.inr (fun k => some (rm k))))))), (ra_2, .inr (0, [.ref mr_2, .long ((trnS 0 p0 q0 r0 (Ms ja)) 0)])), (mr_2, .inl (dA 1, 32, .inr (.inl (fun j => (trnS 0 p0 q0 r0 (Ms ja)) (j + 1))))), (ra_4, .inr (0, [.ref mr_4, .long (M_4 0)])), (mr_4, .inl (dA 1, 32, .inr (.inl (fun j => M_4 (j + 1)))))] H := hP
  have hD : va_D A [((xa 7), .inl (dA 4, 8, .inr (.inr (.inr (.inr (fun k => some (rm k))))))), (ra_2, .inr (0, [.ref mr_2, .long ((trnS 0 p0 q0 r0 (Ms ja)) 0)])), (mr_2, .inl (dA 1, 32, .inr (.inl (fun j => (trnS 0 p0 q0 r0 (Ms ja)) (j + 1))))), (ra_4, .inr (0, [.ref mr_4, .long (M_4 0)])), (mr_4, .inl (dA 1, 32, .inr (.inl (fun j => M_4 (j + 1)))))] := hD
  refine lv_astore (lv' := [(5, .ref ra_4), (4, .ref (rm ja)), (0, .ref (xa 0)), (1, .int (nI jt)), (2, .int (nI ja)), (3, .int (nI jb))]) hx hb dX1_apply_54 hl (by decide) rfl (fun ls hl => ?_)
  refine lv_aload hx hb dX1_apply_56 (lv_at hl 0 rfl) ?_
  obtain ⟨gr, Yg⟩ : ∃ g, SG (dC, dI) dA g s0 := ⟨_, SS.gr Y⟩
  refine s_i (va_runV (As := []) (rest := []) ⟨hx, hb, hml, hown, hts⟩ (x6_isOtherScalar Z gr Yg ra_4 mr_4 M_4) (cwV 0 hts (lw_V q1029 q768 q769 q102 q770) rfl rfl rfl (by decide +kernel) ⟨Nat.le_of_ble_eq_true rfl, Nat.le_of_ble_eq_true rfl⟩) (gP_V (va_recv hK hP (ci := 0) (q0 := 3) rfl rfl) hG hS (fun q _ h => h.elim) (hP.sub (ws' := [(ra_4, .inr (0, [.ref mr_4, .long (M_4 0)])), (mr_4, .inl (dA 1, 32, .inr (.inl (fun j => M_4 (j + 1)))))]) [3, 4] rfl)) rfl rfl hl.1 rfl (lv_room (Nat.le_of_ble_eq_true rfl)) dX1_apply_58 ⟨by first | decide | omega | (show _ ≤ (26 : Nat); omega), by first | decide | omega | (show _ ≤ (400 : Nat); omega)⟩) ?_
  refine e_i (y := bI (isNumB M_4 32)) (congrArg bI (num_gr _)) ?_
  have hF9 := va_free (wc := []) hD hS (fun q h => hA q h) [] rfl
  refine x_v (wc := []) (wr := [((xa 7), .inl (dA 4, 8, .inr (.inr (.inr (.inr (fun k => some (rm k))))))), (ra_2, .inr (0, [.ref mr_2, .long ((trnS 0 p0 q0 r0 (Ms ja)) 0)])), (mr_2, .inl (dA 1, 32, .inr (.inl (fun j => (trnS 0 p0 q0 r0 (Ms ja)) (j + 1))))), (ra_4, .inr (0, [.ref mr_4, .long (M_4 0)])), (mr_4, .inl (dA 1, 32, .inr (.inl (fun j => M_4 (j + 1)))))]) (vx_runS (As := [.int (bI (isNumB M_4 32))]) (rest := []) ⟨hx, hb, hml, hown, hts⟩ (x1_supported Z (va_A [] H.size) H.size (fun q h => Or.inr h) (SS.st Y) (σ 53) (SS.st3 Y) (isNumB M_4 32)) (va_cwS 1 hts (lw_S q1030 q1031 q96 q1032) rfl rfl rfl (by decide +kernel) ⟨Nat.le_of_ble_eq_true rfl, Nat.le_of_ble_eq_true rfl⟩) (gP_S hG hS (fun q _ h => hF9 q h) rfl) rfl rfl hl.1 rfl (lv_room (Nat.le_of_ble_eq_true rfl)) dX1_apply_61 ⟨by first | decide | omega | (show _ ≤ (26 : Nat); omega), by first | decide | omega | (show _ ≤ (400 : Nat); omega)⟩) hP hD hS hA [] [0, 1, 2, 3, 4] rfl rfl (by decide) (by decide) (fun E ce q9 u9 t9 H locs ht9 hp9 hb9 hz hP hS h1 h2 h3 => ?_) (fun u9 H locs hq hX hz hk hP hD hS => ?_)
  · have hD := hD.sub (ws' := [((xa 7), .inl (dA 4, 8, .inr (.inr (.inr (.inr (fun k => some (rm k))))))), (ra_2, .inr (0, [.ref mr_2, .long ((trnS 0 p0 q0 r0 (Ms ja)) 0)])), (mr_2, .inl (dA 1, 32, .inr (.inl (fun j => (trnS 0 p0 q0 r0 (Ms ja)) (j + 1))))), (ra_4, .inr (0, [.ref mr_4, .long (M_4 0)])), (mr_4, .inl (dA 1, 32, .inr (.inl (fun j => M_4 (j + 1)))))]) [0, 1, 2, 3, 4] (by decide) rfl
    have hP : va_P (dC, dI) vwCl [((xa 7), .inl (dA 4, 8, .inr (.inr (.inr (.inr (fun k => some (rm k))))))), (ra_2, .inr (0, [.ref mr_2, .long ((trnS 0 p0 q0 r0 (Ms ja)) 0)])), (mr_2, .inl (dA 1, 32, .inr (.inl (fun j => (trnS 0 p0 q0 r0 (Ms ja)) (j + 1))))), (ra_4, .inr (0, [.ref mr_4, .long (M_4 0)])), (mr_4, .inl (dA 1, 32, .inr (.inl (fun j => M_4 (j + 1)))))] H := hP
    have hD : va_D A [((xa 7), .inl (dA 4, 8, .inr (.inr (.inr (.inr (fun k => some (rm k))))))), (ra_2, .inr (0, [.ref mr_2, .long ((trnS 0 p0 q0 r0 (Ms ja)) 0)])), (mr_2, .inl (dA 1, 32, .inr (.inl (fun j => (trnS 0 p0 q0 r0 (Ms ja)) (j + 1))))), (ra_4, .inr (0, [.ref mr_4, .long (M_4 0)])), (mr_4, .inl (dA 1, 32, .inr (.inl (fun j => M_4 (j + 1)))))] := hD
    subst hb9
    subst hQe
    exact vx_outP hown hlocks (by rw [hxt]; exact (List.forall_mem_cons.mpr ⟨Or.inr ⟨by decide, "BladeAlgebra$Unfit", hts _ q468, ncZ Z hG nc_UnsupportedOperationException_Unfit⟩, (fun _ h => nomatch h)⟩)) h1 h2 h3 (fun t10 e10 _ => ⟨(), trivial, (⟨Or.inr (Or.inr (Or.inr (⟨rfl, app_u h7jt h7ja h7jb (mix_f hg34) e_4 hp9⟩))), by rw [e10]; exact hP.sub (ws' := [((xa 7), .inl (dA 4, 8, .inr (.inr (.inr (.inr (fun k => some (rm k)))))))]) [0] rfl⟩ : (_ ∧ _)), hS.F e10⟩) hS.2.2 (by first | decide | omega) (by first | decide | omega)
  have hg61 : (isNumB M_4 32) = true := hq
  clear hq
  have hP : va_P (dC, dI) vwCl [((xa 7), .inl (dA 4, 8, .inr (.inr (.inr (.inr (fun k => some (rm k))))))), (ra_2, .inr (0, [.ref mr_2, .long ((trnS 0 p0 q0 r0 (Ms ja)) 0)])), (mr_2, .inl (dA 1, 32, .inr (.inl (fun j => (trnS 0 p0 q0 r0 (Ms ja)) (j + 1))))), (ra_4, .inr (0, [.ref mr_4, .long (M_4 0)])), (mr_4, .inl (dA 1, 32, .inr (.inl (fun j => M_4 (j + 1)))))] H := hP
  have hD : va_D A [((xa 7), .inl (dA 4, 8, .inr (.inr (.inr (.inr (fun k => some (rm k))))))), (ra_2, .inr (0, [.ref mr_2, .long ((trnS 0 p0 q0 r0 (Ms ja)) 0)])), (mr_2, .inl (dA 1, 32, .inr (.inl (fun j => (trnS 0 p0 q0 r0 (Ms ja)) (j + 1))))), (ra_4, .inr (0, [.ref mr_4, .long (M_4 0)])), (mr_4, .inl (dA 1, 32, .inr (.inl (fun j => M_4 (j + 1)))))] := hD
  refine lv_aload_n hx hb dX1_apply_64 rfl (lv_at hl 2 rfl) ?_
  refine lv_iload_n hx hb dX1_apply_65 rfl (lv_at hl 3 rfl) ?_
  refine lv_aload_n hx hb dX1_apply_66 rfl (lv_at hl 2 rfl) ?_
  refine lv_aload hx hb dX1_apply_67 (lv_at hl 1 rfl) ?_
  refine lv_aload_n hx hb dX1_apply_69 rfl (lv_at hl 2 rfl) ?_
  refine va_get (D := (dC, dI)) (ci := 3) (v := .ref (xa 3)) (C := RX1) (T := TX1) (N := 9) hx hb hts in_X1 hown hK (hR0.up hS) 0 rfl rfl 2 (by decide) (hts _ q286) (fun _ h9 => h9) rfl dX1_apply_70 ?_
  refine va_getN (D := (dC, dI)) (ci := 4) (v := .ref (xa 7)) (C := RX4) (T := TX4) (N := 2) hx hb hts in_X4 hown hK (hR0.up hS) 1 rfl rfl 1 (by decide) (((va_Nw.warmF hG.1 (va_Nw.of rfl (Z.2.1 _ q243)))).use rfl) (fun _ h9 => h9) rfl dX1_apply_73 ?_
  refine lv_iload_n hx hb dX1_apply_76 rfl (lv_at hl 5 rfl) ?_
  refine a_aldq hx hb hK hP 0 4 rfl rfl (by omega) (by decide) dX1_apply_77 ?_
  refine e_v (y := .ref (rm jb)) (rfl) ?_
  have hR3 := hRG jb (by omega)
  have hF9 := va_free (wc := []) hD hS (fun q h => hA q h) [] rfl
  refine x_r (wc := []) (wr := [((xa 7), .inl (dA 4, 8, .inr (.inr (.inr (.inr (fun k => some (rm k))))))), (ra_2, .inr (0, [.ref mr_2, .long ((trnS 0 p0 q0 r0 (Ms ja)) 0)])), (mr_2, .inl (dA 1, 32, .inr (.inl (fun j => (trnS 0 p0 q0 r0 (Ms ja)) (j + 1))))), (ra_4, .inr (0, [.ref mr_4, .long (M_4 0)])), (mr_4, .inl (dA 1, 32, .inr (.inl (fun j => M_4 (j + 1)))))]) (vx_runV (As := [.ref (rm ja), .ref (rm jb)]) (rest := [.int (nI jt), .ref (xa 0)]) ⟨hx, hb, hml, hown, hts⟩ (x1_sandwich Z (va_A [] H.size) H.size (fun q h => Or.inr h) Y xa tl ec ep ga sg sr p0 q0 r0 0 (rm ja) (rr ja) (Ms ja) (rm jb) (rr jb) (Ms jb) (sR ja (by omega)) (pR ja (by omega)) (sR jb (by omega)) (pR jb (by omega))) (cwV 2 hts (lw_V q1049 q1051 qs11 q96 q1052) rfl rfl rfl (by decide +kernel) ⟨Nat.le_of_ble_eq_true rfl, Nat.le_of_ble_eq_true rfl⟩) (gP_V (va_recv hK (hR0.up hS) (ci := 3) (q0 := 0) rfl rfl) hG hS (fun q _ h => hF9 q h) ⟨rfl, (hR0.to hS (fun q _ h => hF9 q h)), (hR2.to hS (fun q _ h => hF9 q h)), (hR3.to hS (fun q _ h => hF9 q h)), (hAG.to hS (fun q _ h => hF9 q h))⟩) rfl rfl hl.1 rfl (lv_room (Nat.le_of_ble_eq_true rfl)) dX1_apply_78 ⟨by first | decide | omega | (show _ ≤ (26 : Nat); omega), by first | decide | omega | (show _ ≤ (400 : Nat); omega)⟩) hP hD hS hA [] [0, 1, 2, 3, 4] rfl rfl (by decide) (by decide) (fun E ce q9 u9 t9 H locs ht9 hp9 hb9 hz hP hS h1 h2 h3 => ?_) (fun u9 ra9 H locs hq hX hz hk hP hD hS => ?_)
  · have hD := hD.sub (ws' := [((xa 7), .inl (dA 4, 8, .inr (.inr (.inr (.inr (fun k => some (rm k))))))), (ra_2, .inr (0, [.ref mr_2, .long ((trnS 0 p0 q0 r0 (Ms ja)) 0)])), (mr_2, .inl (dA 1, 32, .inr (.inl (fun j => (trnS 0 p0 q0 r0 (Ms ja)) (j + 1))))), (ra_4, .inr (0, [.ref mr_4, .long (M_4 0)])), (mr_4, .inl (dA 1, 32, .inr (.inl (fun j => M_4 (j + 1)))))]) [0, 1, 2, 3, 4] (by decide) rfl
    have hP : va_P (dC, dI) vwCl [((xa 7), .inl (dA 4, 8, .inr (.inr (.inr (.inr (fun k => some (rm k))))))), (ra_2, .inr (0, [.ref mr_2, .long ((trnS 0 p0 q0 r0 (Ms ja)) 0)])), (mr_2, .inl (dA 1, 32, .inr (.inl (fun j => (trnS 0 p0 q0 r0 (Ms ja)) (j + 1))))), (ra_4, .inr (0, [.ref mr_4, .long (M_4 0)])), (mr_4, .inl (dA 1, 32, .inr (.inl (fun j => M_4 (j + 1)))))] H := hP
    have hD : va_D A [((xa 7), .inl (dA 4, 8, .inr (.inr (.inr (.inr (fun k => some (rm k))))))), (ra_2, .inr (0, [.ref mr_2, .long ((trnS 0 p0 q0 r0 (Ms ja)) 0)])), (mr_2, .inl (dA 1, 32, .inr (.inl (fun j => (trnS 0 p0 q0 r0 (Ms ja)) (j + 1))))), (ra_4, .inr (0, [.ref mr_4, .long (M_4 0)])), (mr_4, .inl (dA 1, 32, .inr (.inl (fun j => M_4 (j + 1)))))] := hD
    subst hb9
    refine vx_catch (name := "BladeAlgebra$Unfit") (E := "BladeAlgebra$Unfit") (ce := ce) hown [] ⟨37, 89, 90, 179⟩ [] hxt (fun _ h => nomatch h) (by decide) (by decide) (hts _ q468) (castZ Z hG q523) h1 h2 h3 ?_
    have hpU := hp9
    refine lv_astore (lv' := [(5, .ref q9), (4, .ref (rm ja)), (0, .ref (xa 0)), (1, .int (nI jt)), (2, .int (nI ja)), (3, .int (nI jb))]) hx hb dX1_apply_90 hl (by decide) rfl (fun ls hl => ?_)
    have hF9 := va_free (wc := []) hD hS (fun q h => hA q h) [] rfl
    refine c_r (wr := [((xa 7), .inl (dA 4, 8, .inr (.inr (.inr (.inr (fun k => some (rm k))))))), (ra_2, .inr (0, [.ref mr_2, .long ((trnS 0 p0 q0 r0 (Ms ja)) 0)])), (mr_2, .inl (dA 1, 32, .inr (.inl (fun j => (trnS 0 p0 q0 r0 (Ms ja)) (j + 1))))), (ra_4, .inr (0, [.ref mr_4, .long (M_4 0)])), (mr_4, .inl (dA 1, 32, .inr (.inl (fun j => M_4 (j + 1)))))]) (va_runS (As := []) (rest := []) ⟨hx, hb, hml, hown, hts⟩ (x1_large Z (va_A [] H.size) H.size (fun q h => Or.inr h) Y) (va_cwS 0 hts (lw_S q562 q563 q96 q564) rfl rfl rfl (by decide +kernel) ⟨Nat.le_of_ble_eq_true rfl, Nat.le_of_ble_eq_true rfl⟩) (gP_S hG hS (fun q _ h => hF9 q h) rfl) rfl rfl hl.1 rfl (lv_room (Nat.le_of_ble_eq_true rfl)) dX1_apply_92 ⟨by first | decide | omega | (show _ ≤ (26 : Nat); omega), by first | decide | omega | (show _ ≤ (400 : Nat); omega)⟩) hP hD hS hA [] [0, 1, 2, 3, 4] rfl rfl (by decide) (by decide) (fun u9 ra9 H locs hq hX hz hk hP hD hS => ?_)
    obtain ⟨ra_5, rfl⟩ : ∃ z, z = ra9 := ⟨_, rfl⟩
    have hP : va_P (dC, dI) vwCl [((xa 7), .inl (dA 4, 8, .inr (.inr (.inr (.inr (fun k => some (rm k))))))), (ra_2, .inr (0, [.ref mr_2, .long ((trnS 0 p0 q0 r0 (Ms ja)) 0)])), (mr_2, .inl (dA 1, 32, .inr (.inl (fun j => (trnS 0 p0 q0 r0 (Ms ja)) (j + 1))))), (ra_4, .inr (0, [.ref mr_4, .long (M_4 0)])), (mr_4, .inl (dA 1, 32, .inr (.inl (fun j => M_4 (j + 1))))), (ra_5, .inr (17, []))] H := hP
    have hD : va_D A [((xa 7), .inl (dA 4, 8, .inr (.inr (.inr (.inr (fun k => some (rm k))))))), (ra_2, .inr (0, [.ref mr_2, .long ((trnS 0 p0 q0 r0 (Ms ja)) 0)])), (mr_2, .inl (dA 1, 32, .inr (.inl (fun j => (trnS 0 p0 q0 r0 (Ms ja)) (j + 1))))), (ra_4, .inr (0, [.ref mr_4, .long (M_4 0)])), (mr_4, .inl (dA 1, 32, .inr (.inl (fun j => M_4 (j + 1))))), (ra_5, .inr (17, []))] := hD
    refine vx_athrow hx hb dX1_apply_95 ?_
    obtain ⟨ce, h1, h2, h3⟩ := va_thr hK hP (ci := 17) (q0 := 5) rfl rfl
    subst hQe
    exact vx_outP hown hlocks (by rw [hxt]; exact (List.forall_mem_cons.mpr ⟨Or.inl (by decide), (fun _ h => nomatch h)⟩)) h1 h2 h3 (fun t10 e10 _ => ⟨(), trivial, (⟨Or.inr (Or.inr (Or.inl (⟨rfl, app_x1 h7jt h7ja h7jb (mix_f hg34) e_4 hg61 hpU⟩))), by rw [e10]; exact hP.sub (ws' := [((xa 7), .inl (dA 4, 8, .inr (.inr (.inr (.inr (fun k => some (rm k)))))))]) [0] rfl⟩ : (_ ∧ _)), hS.F e10⟩) hS.2.2 (by first | decide | omega) (by first | decide | omega)
  obtain ⟨ra_6, rfl⟩ : ∃ z, z = ra9 := ⟨_, rfl⟩
  obtain ⟨mr_6, M_6⟩ := u9
  have e_6 := hq
  have sm_6 : MSm M_6 := sndS_sm hn (sR ja (by omega)) (sR jb (by omega)) e_6
  clear hq
  have hP : va_P (dC, dI) vwCl [((xa 7), .inl (dA 4, 8, .inr (.inr (.inr (.inr (fun k => some (rm k))))))), (ra_2, .inr (0, [.ref mr_2, .long ((trnS 0 p0 q0 r0 (Ms ja)) 0)])), (mr_2, .inl (dA 1, 32, .inr (.inl (fun j => (trnS 0 p0 q0 r0 (Ms ja)) (j + 1))))), (ra_4, .inr (0, [.ref mr_4, .long (M_4 0)])), (mr_4, .inl (dA 1, 32, .inr (.inl (fun j => M_4 (j + 1))))), (ra_6, .inr (0, [.ref mr_6, .long (M_6 0)])), (mr_6, .inl (dA 1, 32, .inr (.inl (fun j => M_6 (j + 1)))))] H := hP
  have hD : va_D A [((xa 7), .inl (dA 4, 8, .inr (.inr (.inr (.inr (fun k => some (rm k))))))), (ra_2, .inr (0, [.ref mr_2, .long ((trnS 0 p0 q0 r0 (Ms ja)) 0)])), (mr_2, .inl (dA 1, 32, .inr (.inl (fun j => (trnS 0 p0 q0 r0 (Ms ja)) (j + 1))))), (ra_4, .inr (0, [.ref mr_4, .long (M_4 0)])), (mr_4, .inl (dA 1, 32, .inr (.inl (fun j => M_4 (j + 1))))), (ra_6, .inr (0, [.ref mr_6, .long (M_6 0)])), (mr_6, .inl (dA 1, 32, .inr (.inl (fun j => M_6 (j + 1)))))] := hD
  refine lv_aload hx hb dX1_apply_81 (lv_at hl 0 rfl) ?_
  have hF9 := va_free (wc := []) hD hS (fun q h => hA q h) [] rfl
  refine x_r (wc := []) (wr := [((xa 7), .inl (dA 4, 8, .inr (.inr (.inr (.inr (fun k => some (rm k))))))), (ra_2, .inr (0, [.ref mr_2, .long ((trnS 0 p0 q0 r0 (Ms ja)) 0)])), (mr_2, .inl (dA 1, 32, .inr (.inl (fun j => (trnS 0 p0 q0 r0 (Ms ja)) (j + 1))))), (ra_4, .inr (0, [.ref mr_4, .long (M_4 0)])), (mr_4, .inl (dA 1, 32, .inr (.inl (fun j => M_4 (j + 1))))), (ra_6, .inr (0, [.ref mr_6, .long (M_6 0)])), (mr_6, .inl (dA 1, 32, .inr (.inl (fun j => M_6 (j + 1)))))]) (vx_runS (As := [.ref ra_6, .ref ra_4]) (rest := [.int (nI jt), .ref (xa 0)]) ⟨hx, hb, hml, hown, hts⟩ (x1_by Z (va_A [] H.size) H.size (fun q h => Or.inr h) Y ra_6 mr_6 M_6 ra_4 mr_4 M_4 sm_6 sm_4 (isNumB_1 hg61)) (va_cwS 2 hts (lw_S q1053 q795 q96 q796) rfl rfl rfl (by decide +kernel) ⟨Nat.le_of_ble_eq_true rfl, Nat.le_of_ble_eq_true rfl⟩) (gP_S hG hS (fun q _ h => hF9 q h) ⟨rfl, (RO.beside (wr := [(ra_6, .inr (0, [.ref mr_6, .long (M_6 0)])), (mr_6, .inl (dA 1, 32, .inr (.inl (fun j => M_6 (j + 1)))))]) hP hD [] [5, 6] rfl rfl (by decide)), (RO.beside (wr := [(ra_4, .inr (0, [.ref mr_4, .long (M_4 0)])), (mr_4, .inl (dA 1, 32, .inr (.inl (fun j => M_4 (j + 1)))))]) hP hD [] [3, 4] rfl rfl (by decide))⟩) rfl rfl hl.1 rfl (lv_room (Nat.le_of_ble_eq_true rfl)) dX1_apply_83 ⟨by first | decide | omega | (show _ ≤ (26 : Nat); omega), by first | decide | omega | (show _ ≤ (400 : Nat); omega)⟩) hP hD hS hA [] [0, 1, 2, 3, 4, 5, 6] rfl rfl (by decide) (by decide) (fun E ce q9 u9 t9 H locs ht9 hp9 hb9 hz hP hS h1 h2 h3 => ?_) (fun u9 ra9 H locs hq hX hz hk hP hD hS => ?_)
  · have hD := hD.sub (ws' := [((xa 7), .inl (dA 4, 8, .inr (.inr (.inr (.inr (fun k => some (rm k))))))), (ra_2, .inr (0, [.ref mr_2, .long ((trnS 0 p0 q0 r0 (Ms ja)) 0)])), (mr_2, .inl (dA 1, 32, .inr (.inl (fun j => (trnS 0 p0 q0 r0 (Ms ja)) (j + 1))))), (ra_4, .inr (0, [.ref mr_4, .long (M_4 0)])), (mr_4, .inl (dA 1, 32, .inr (.inl (fun j => M_4 (j + 1))))), (ra_6, .inr (0, [.ref mr_6, .long (M_6 0)])), (mr_6, .inl (dA 1, 32, .inr (.inl (fun j => M_6 (j + 1)))))]) [0, 1, 2, 3, 4, 5, 6] (by decide) rfl
    have hP : va_P (dC, dI) vwCl [((xa 7), .inl (dA 4, 8, .inr (.inr (.inr (.inr (fun k => some (rm k))))))), (ra_2, .inr (0, [.ref mr_2, .long ((trnS 0 p0 q0 r0 (Ms ja)) 0)])), (mr_2, .inl (dA 1, 32, .inr (.inl (fun j => (trnS 0 p0 q0 r0 (Ms ja)) (j + 1))))), (ra_4, .inr (0, [.ref mr_4, .long (M_4 0)])), (mr_4, .inl (dA 1, 32, .inr (.inl (fun j => M_4 (j + 1))))), (ra_6, .inr (0, [.ref mr_6, .long (M_6 0)])), (mr_6, .inl (dA 1, 32, .inr (.inl (fun j => M_6 (j + 1)))))] H := hP
    have hD : va_D A [((xa 7), .inl (dA 4, 8, .inr (.inr (.inr (.inr (fun k => some (rm k))))))), (ra_2, .inr (0, [.ref mr_2, .long ((trnS 0 p0 q0 r0 (Ms ja)) 0)])), (mr_2, .inl (dA 1, 32, .inr (.inl (fun j => (trnS 0 p0 q0 r0 (Ms ja)) (j + 1))))), (ra_4, .inr (0, [.ref mr_4, .long (M_4 0)])), (mr_4, .inl (dA 1, 32, .inr (.inl (fun j => M_4 (j + 1))))), (ra_6, .inr (0, [.ref mr_6, .long (M_6 0)])), (mr_6, .inl (dA 1, 32, .inr (.inl (fun j => M_6 (j + 1)))))] := hD
    subst hb9
    refine vx_catch (name := "BladeAlgebra$Unfit") (E := "BladeAlgebra$Unfit") (ce := ce) hown [] ⟨37, 89, 90, 179⟩ [] hxt (fun _ h => nomatch h) (by decide) (by decide) (hts _ q468) (castZ Z hG q523) h1 h2 h3 ?_
    have hpU := hp9
    refine lv_astore (lv' := [(5, .ref q9), (4, .ref (rm ja)), (0, .ref (xa 0)), (1, .int (nI jt)), (2, .int (nI ja)), (3, .int (nI jb))]) hx hb dX1_apply_90 hl (by decide) rfl (fun ls hl => ?_)
    have hF9 := va_free (wc := []) hD hS (fun q h => hA q h) [] rfl
    refine c_r (wr := [((xa 7), .inl (dA 4, 8, .inr (.inr (.inr (.inr (fun k => some (rm k))))))), (ra_2, .inr (0, [.ref mr_2, .long ((trnS 0 p0 q0 r0 (Ms ja)) 0)])), (mr_2, .inl (dA 1, 32, .inr (.inl (fun j => (trnS 0 p0 q0 r0 (Ms ja)) (j + 1))))), (ra_4, .inr (0, [.ref mr_4, .long (M_4 0)])), (mr_4, .inl (dA 1, 32, .inr (.inl (fun j => M_4 (j + 1))))), (ra_6, .inr (0, [.ref mr_6, .long (M_6 0)])), (mr_6, .inl (dA 1, 32, .inr (.inl (fun j => M_6 (j + 1)))))]) (va_runS (As := []) (rest := []) ⟨hx, hb, hml, hown, hts⟩ (x1_large Z (va_A [] H.size) H.size (fun q h => Or.inr h) Y) (va_cwS 0 hts (lw_S q562 q563 q96 q564) rfl rfl rfl (by decide +kernel) ⟨Nat.le_of_ble_eq_true rfl, Nat.le_of_ble_eq_true rfl⟩) (gP_S hG hS (fun q _ h => hF9 q h) rfl) rfl rfl hl.1 rfl (lv_room (Nat.le_of_ble_eq_true rfl)) dX1_apply_92 ⟨by first | decide | omega | (show _ ≤ (26 : Nat); omega), by first | decide | omega | (show _ ≤ (400 : Nat); omega)⟩) hP hD hS hA [] [0, 1, 2, 3, 4, 5, 6] rfl rfl (by decide) (by decide) (fun u9 ra9 H locs hq hX hz hk hP hD hS => ?_)
    obtain ⟨ra_7, rfl⟩ : ∃ z, z = ra9 := ⟨_, rfl⟩
    have hP : va_P (dC, dI) vwCl [((xa 7), .inl (dA 4, 8, .inr (.inr (.inr (.inr (fun k => some (rm k))))))), (ra_2, .inr (0, [.ref mr_2, .long ((trnS 0 p0 q0 r0 (Ms ja)) 0)])), (mr_2, .inl (dA 1, 32, .inr (.inl (fun j => (trnS 0 p0 q0 r0 (Ms ja)) (j + 1))))), (ra_4, .inr (0, [.ref mr_4, .long (M_4 0)])), (mr_4, .inl (dA 1, 32, .inr (.inl (fun j => M_4 (j + 1))))), (ra_6, .inr (0, [.ref mr_6, .long (M_6 0)])), (mr_6, .inl (dA 1, 32, .inr (.inl (fun j => M_6 (j + 1))))), (ra_7, .inr (17, []))] H := hP
    have hD : va_D A [((xa 7), .inl (dA 4, 8, .inr (.inr (.inr (.inr (fun k => some (rm k))))))), (ra_2, .inr (0, [.ref mr_2, .long ((trnS 0 p0 q0 r0 (Ms ja)) 0)])), (mr_2, .inl (dA 1, 32, .inr (.inl (fun j => (trnS 0 p0 q0 r0 (Ms ja)) (j + 1))))), (ra_4, .inr (0, [.ref mr_4, .long (M_4 0)])), (mr_4, .inl (dA 1, 32, .inr (.inl (fun j => M_4 (j + 1))))), (ra_6, .inr (0, [.ref mr_6, .long (M_6 0)])), (mr_6, .inl (dA 1, 32, .inr (.inl (fun j => M_6 (j + 1))))), (ra_7, .inr (17, []))] := hD
    refine vx_athrow hx hb dX1_apply_95 ?_
    obtain ⟨ce, h1, h2, h3⟩ := va_thr hK hP (ci := 17) (q0 := 7) rfl rfl
    subst hQe
    exact vx_outP hown hlocks (by rw [hxt]; exact (List.forall_mem_cons.mpr ⟨Or.inl (by decide), (fun _ h => nomatch h)⟩)) h1 h2 h3 (fun t10 e10 _ => ⟨(), trivial, (⟨Or.inr (Or.inr (Or.inl (⟨rfl, app_x2 h7jt h7ja h7jb (mix_f hg34) e_4 hg61 e_6 hpU⟩))), by rw [e10]; exact hP.sub (ws' := [((xa 7), .inl (dA 4, 8, .inr (.inr (.inr (.inr (fun k => some (rm k)))))))]) [0] rfl⟩ : (_ ∧ _)), hS.F e10⟩) hS.2.2 (by first | decide | omega) (by first | decide | omega)
  obtain ⟨ra_8, rfl⟩ : ∃ z, z = ra9 := ⟨_, rfl⟩
  obtain ⟨mr_8, M_8⟩ := u9
  have e_8 := hq
  have sm_8 : MSm M_8 := scaS_sm (sm_4.c (j := 0) (by decide)) (isNumB_1 hg61) sm_6 e_8
  clear hq
  have hP : va_P (dC, dI) vwCl [((xa 7), .inl (dA 4, 8, .inr (.inr (.inr (.inr (fun k => some (rm k))))))), (ra_2, .inr (0, [.ref mr_2, .long ((trnS 0 p0 q0 r0 (Ms ja)) 0)])), (mr_2, .inl (dA 1, 32, .inr (.inl (fun j => (trnS 0 p0 q0 r0 (Ms ja)) (j + 1))))), (ra_4, .inr (0, [.ref mr_4, .long (M_4 0)])), (mr_4, .inl (dA 1, 32, .inr (.inl (fun j => M_4 (j + 1))))), (ra_6, .inr (0, [.ref mr_6, .long (M_6 0)])), (mr_6, .inl (dA 1, 32, .inr (.inl (fun j => M_6 (j + 1))))), (ra_8, .inr (0, [.ref mr_8, .long (M_8 0)])), (mr_8, .inl (dA 1, 32, .inr (.inl (fun j => M_8 (j + 1)))))] H := hP
  have hD : va_D A [((xa 7), .inl (dA 4, 8, .inr (.inr (.inr (.inr (fun k => some (rm k))))))), (ra_2, .inr (0, [.ref mr_2, .long ((trnS 0 p0 q0 r0 (Ms ja)) 0)])), (mr_2, .inl (dA 1, 32, .inr (.inl (fun j => (trnS 0 p0 q0 r0 (Ms ja)) (j + 1))))), (ra_4, .inr (0, [.ref mr_4, .long (M_4 0)])), (mr_4, .inl (dA 1, 32, .inr (.inl (fun j => M_4 (j + 1))))), (ra_6, .inr (0, [.ref mr_6, .long (M_6 0)])), (mr_6, .inl (dA 1, 32, .inr (.inl (fun j => M_6 (j + 1))))), (ra_8, .inr (0, [.ref mr_8, .long (M_8 0)])), (mr_8, .inl (dA 1, 32, .inr (.inl (fun j => M_8 (j + 1)))))] := hD
  have hF9 := va_free (wc := [((xa 7), .inl (dA 4, 8, .inr (.inr (.inr (.inr (fun k => some (rm k)))))))]) hD hS (fun q h => hA q h) [0] rfl
  refine c_i (wr := [(ra_2, .inr (0, [.ref mr_2, .long ((trnS 0 p0 q0 r0 (Ms ja)) 0)])), (mr_2, .inl (dA 1, 32, .inr (.inl (fun j => (trnS 0 p0 q0 r0 (Ms ja)) (j + 1))))), (ra_4, .inr (0, [.ref mr_4, .long (M_4 0)])), (mr_4, .inl (dA 1, 32, .inr (.inl (fun j => M_4 (j + 1))))), (ra_6, .inr (0, [.ref mr_6, .long (M_6 0)])), (mr_6, .inl (dA 1, 32, .inr (.inl (fun j => M_6 (j + 1))))), (ra_8, .inr (0, [.ref mr_8, .long (M_8 0)])), (mr_8, .inl (dA 1, 32, .inr (.inl (fun j => M_8 (j + 1)))))]) (va_runV (As := [.int (nI jt), .ref ra_8]) (rest := []) ⟨hx, hb, hml, hown, hts⟩ (x1_store Z (va_A [((xa 7), .inl (dA 4, 8, .inr (.inr (.inr (.inr (fun k => some (rm k)))))))] H.size) H.size (fun q h => Or.inr h) Y xa tl ec ep ga (fun k => some (rm k)) jt ra_8 mr_8 M_8 (by omega)) (cwV 2 hts (lw_V q731 q733 qs6 q96 q734) rfl rfl rfl (by decide +kernel) ⟨Nat.le_of_ble_eq_true rfl, Nat.le_of_ble_eq_true rfl⟩) (gP_V (va_recv hK (hR0.up hS) (ci := 3) (q0 := 0) rfl rfl) hG hS (fun q _ h => hF9 q h) ⟨rfl, (hP.sub (ws' := [((xa 7), .inl (dA 4, 8, .inr (.inr (.inr (.inr (fun k => some (rm k)))))))]) [0] rfl), (hD.sub (ws' := [((xa 7), .inl (dA 4, 8, .inr (.inr (.inr (.inr (fun k => some (rm k)))))))]) [0] (by decide) rfl).self, (hR0.to hS (fun q _ h => hF9 q h)), (RO.beside (wr := [(ra_8, .inr (0, [.ref mr_8, .long (M_8 0)])), (mr_8, .inl (dA 1, 32, .inr (.inl (fun j => M_8 (j + 1)))))]) hP hD [0] [7, 8] rfl rfl (by decide))⟩) rfl rfl hl.1 rfl (lv_room (Nat.le_of_ble_eq_true rfl)) dX1_apply_86 ⟨by first | decide | omega | (show _ ≤ (26 : Nat); omega), by first | decide | omega | (show _ ≤ (400 : Nat); omega)⟩) hP hD hS hA [0] [1, 2, 3, 4, 5, 6, 7, 8] rfl rfl (by decide) (by decide) (fun r9 u9 H locs hq hX hz hk hP hD hS => ?_)
  obtain ⟨r_9, rfl⟩ : ∃ z, z = r9 := ⟨_, rfl⟩
  subst hq
  have hP : va_P (dC, dI) vwCl [(ra_2, .inr (0, [.ref mr_2, .long ((trnS 0 p0 q0 r0 (Ms ja)) 0)])), (mr_2, .inl (dA 1, 32, .inr (.inl (fun j => (trnS 0 p0 q0 r0 (Ms ja)) (j + 1))))), (ra_4, .inr (0, [.ref mr_4, .long (M_4 0)])), (mr_4, .inl (dA 1, 32, .inr (.inl (fun j => M_4 (j + 1))))), (ra_6, .inr (0, [.ref mr_6, .long (M_6 0)])), (mr_6, .inl (dA 1, 32, .inr (.inl (fun j => M_6 (j + 1))))), (ra_8, .inr (0, [.ref mr_8, .long (M_8 0)])), (mr_8, .inl (dA 1, 32, .inr (.inl (fun j => M_8 (j + 1))))), ((xa 7), .inl (dA 4, 8, .inr (.inr (.inr (.inr (va_up (fun k => some (rm k)) jt (some ra_8)))))))] H := hP
  have hD : va_D A [(ra_2, .inr (0, [.ref mr_2, .long ((trnS 0 p0 q0 r0 (Ms ja)) 0)])), (mr_2, .inl (dA 1, 32, .inr (.inl (fun j => (trnS 0 p0 q0 r0 (Ms ja)) (j + 1))))), (ra_4, .inr (0, [.ref mr_4, .long (M_4 0)])), (mr_4, .inl (dA 1, 32, .inr (.inl (fun j => M_4 (j + 1))))), (ra_6, .inr (0, [.ref mr_6, .long (M_6 0)])), (mr_6, .inl (dA 1, 32, .inr (.inl (fun j => M_6 (j + 1))))), (ra_8, .inr (0, [.ref mr_8, .long (M_8 0)])), (mr_8, .inl (dA 1, 32, .inr (.inl (fun j => M_8 (j + 1))))), ((xa 7), .inl (dA 4, 8, .inr (.inr (.inr (.inr (va_up (fun k => some (rm k)) jt (some ra_8)))))))] := hD
  have e8 : rg (nI jt) = jt := rg_n (by omega)
  subst hQe
  refine vx_ret ?_
  refine W.widen (k := 26) (n := 400) (by first | decide | omega) (by first | decide | omega) ?_
  exact W.iret (v := nI (trmS M_8)) hx hb hr (fun tz ht hW => ⟨⟨_, (ra_8, mr_8, M_8), rfl, ⟨app_ok h7jt h7ja h7jb (mix_f hg34) e_4 hg61 e_6 e_8, rfl⟩, B1_at ht (by rw [e8]; exact hP.sub [8] rfl) (by rw [e8]; exact hD.sub [8] (by decide) rfl) (⟨hP.sub [6, 7] rfl, Or.inl ⟨fresh_of hD hAf 8 6 rfl rfl (by decide), fresh_of hD hAf 8 7 rfl rfl (by decide)⟩⟩)⟩, hS.F ht⟩) hS.2.2 dX1_apply_89
