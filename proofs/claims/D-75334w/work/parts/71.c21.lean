/-! worlds -/
/-- the signs, as far as they are written: the rows before a, of row a those before b -/
def sgF (p q r a b : Nat) : Nat → Nat → Int32 := fun k j => if j < 2 ^ (p + q + r) ∧ ((k < a ∧ k < 2 ^ (p + q + r)) ∨ (k = a ∧ j < b)) then sgS p q r k j else 0
theorem sgF_0 {p q r : Nat} : (fun _ _ => 0 : Nat → Nat → Int32) = sgF p q r 0 0 := by
  funext k j
  unfold sgF
  rw [if_neg (by omega)]
theorem sgF_s {p q r a b : Nat} {v : Int32} (hv : v = sgS p q r a b) (hb : b < 2 ^ (p + q + r)) : updR (sgF p q r a b) a (upd (sgF p q r a b a) b v) = sgF p q r a (b + 1) := by
  subst hv
  funext k j
  unfold updR
  by_cases e : k = a
  · subst e
    rw [if_pos rfl]
    by_cases e2 : j = b
    · subst e2
      rw [pk_us]
      unfold sgF
      rw [if_pos (by omega)]
    · rw [pk_un e2]
      unfold sgF
      by_cases c : j < 2 ^ (p + q + r) ∧ ((k < k ∧ k < 2 ^ (p + q + r)) ∨ (k = k ∧ j < b))
      · rw [if_pos c, if_pos (by omega)]
      · rw [if_neg c, if_neg (by omega)]
  · rw [if_neg e]
    unfold sgF
    by_cases c : j < 2 ^ (p + q + r) ∧ ((k < a ∧ k < 2 ^ (p + q + r)) ∨ (k = a ∧ j < b))
    · rw [if_pos c, if_pos (by omega)]
    · rw [if_neg c, if_neg (by omega)]
theorem sgF_e {p q r a : Nat} (ha : a < 2 ^ (p + q + r)) : sgF p q r a (2 ^ (p + q + r)) = sgF p q r (a + 1) 0 := by
  funext k j
  unfold sgF
  by_cases c : j < 2 ^ (p + q + r) ∧ ((k < a ∧ k < 2 ^ (p + q + r)) ∨ (k = a ∧ j < 2 ^ (p + q + r)))
  · rw [if_pos c, if_pos (by omega)]
  · rw [if_neg c, if_neg (by omega)]
theorem sgF_T {p q r : Nat} : sgF p q r (2 ^ (p + q + r)) 0 = sgT p q r := by
  funext k j
  unfold sgF sgT
  by_cases c : k < 2 ^ (p + q + r) ∧ j < 2 ^ (p + q + r)
  · rw [if_pos c, if_pos (by omega)]
  · rw [if_neg c, if_neg (by omega)]
set_option maxHeartbeats 4000000 in
theorem x5_init3 {l : Launch} {dC : Nat → ClassId} {dI : Nat → Nat → Nat} {dA : Nat → ClassId} {s0 : State} {b0 : Addr} (Z : Z0 l dC dI dA s0 b0) (A : Nat → Prop) (sz : Nat) (hA : ∀ q : Nat, sz ≤ q → A q) {σ : Nat → Nat} (Y : SS (dC, dI) dA σ s0) (ga p0 q0 r0 : Nat) (hn : p0 + q0 + r0 ≤ 5) : Met l yX5_init_2 (ws_ yX5_init_2 cX5_init_2 6 none) ({ frames := 3, cells := 33, slots := 1056, locals := 180 } : Room) (gP [.ref ga, .int (nI p0), .int (nI q0), .int (nI r0)] s0 A (fun H => H.size = sz ∧ va_P (dC, dI) vwCl [(ga, .inr (1, [.int 0, .int 0, .int 0, .int 0, .int 0, .null]))] H ∧ va_D A [(ga, .inr (1, [.int 0, .int 0, .int 0, .int 0, .int 0, .null]))])) (va_Qv (S := Nat) (fun _ => True) (B1 (dC, dI) A (fun sg => ([(ga, .inr (1, [.int (nI p0), .int (nI q0), .int (nI r0), .int (nI (p0 + q0 + r0)), .int (nI (2 ^ (p0 + q0 + r0) - 1)), .ref sg])), (sg, .inl (dA 9, 32, .inr (.inr (.inr (.inr (fun i => some (sg + 1 + i)))))))] ++ rwL (dA 0) 32 sg (sgT p0 q0 r0) 32)) (fun _ _ => True)) A) 33 1056 A := by
  refine Met.ofW (cc := cX5_init_2) (maxL := 6) (ret := none) (by decide) rfl ?_
  intro p e s m args below meth c s₁ B hml hv
  obtain ⟨hav, hG, hsz, hP, hD⟩ := hv
  have hx := B.exec
  have hb := B.bytes
  have hr := B.returns
  have hts := atoms_spec (ws := (ws_ yX5_init_2 cX5_init_2 6 none)) B.pre
  have hts : ∀ w ∈ lw_all, w.before _ s = true := fun w h => hts w (List.mem_cons_of_mem _ h)
  have hown : s.vm.findClass RX5 = some m.cls := findClass_of_methodNamed B.named
  have hlocks := B.notSynchronized
  have hK := hG.K Z
  have hin : meth.name = "<init>" := (name_of_methodNamed B.named B.method).1
  subst hsz
  have hS : va_S A s.heap s.heap [] := va_S.rf
  have hl := lv_entry ([.ref ga, .int (nI p0), .int (nI q0), .int (nI r0)]) (n := 6) (Nat.le_of_ble_eq_true rfl)
  rw [show entryFrame m args 6 = entryFrame m ([.ref ga, .int (nI p0), .int (nI q0), .int (nI r0)] : List Value).toArray 6 from by rw [hav], lg_entry_eq]
  generalize (lg_sl ([.ref ga, .int (nI p0), .int (nI q0), .int (nI r0)]) ++ List.replicate (6 - (lg_sl ([.ref ga, .int (nI p0), .int (nI q0), .int (nI r0)])).length) Slot.unset).toArray = ls at hl ⊢
  have hl : lv_has ls 6 [(0, .ref ga), (1, .int (nI p0)), (2, .int (nI q0)), (3, .int (nI r0))] := hl
  generalize hQe : MQ below _ _ s _ _ _ = Q
  change W p l e ({ frames := 3, cells := 33, slots := 1056, locals := 180 } : Room) s m args below meth c s.heap [] 0 0 Q (F0 m 0 ls [])
  have h5 := pow5 hn
  have h2 := Nat.two_pow_pos (p0 + q0 + r0)
  refine lv_aload_n hx hb dX5_init_2_0 rfl (lv_at hl 0 rfl) ?_
  refine W.objInit hx hb hown (hts _ q191) (hts _ q151) (hts _ q152) rfl (by rw [hml]; exact hl.1) rfl dX5_init_2_1 (Nat.le_of_ble_eq_true rfl) (Nat.le_of_ble_eq_true rfl) ?_
  show W p l e ({ frames := 3, cells := 33, slots := 1056, locals := 180 } : Room) s m args below meth c s.heap [] 0 0 Q (F0 m 4 ls [])
  refine lv_aload_n hx hb dX5_init_2_4 rfl (lv_at hl 0 rfl) ?_
  refine lv_bipush (v := nI 32) hx hb dX5_init_2_5 (by decide) ?_
  refine lv_bipush (v := nI 32) hx hb dX5_init_2_7 (by decide) ?_
  refine a_mnew (N := 32) (K := 32) hx hb hown (hts _ q192) (aoZ Z hG q193) (hts _ q230) hK hP hD hS hA 9 0 rfl rfl (by decide) (by decide) (by first | decide | omega) (by first | decide | omega) dX5_init_2_9 (fun sg_1 H locs hP hD hS => ?_)
  have hP : va_P (dC, dI) vwCl ([(ga, .inr (1, [.int 0, .int 0, .int 0, .int 0, .int 0, .null])), (sg_1, .inl (dA 9, 32, .inr (.inr (.inr (.inr (fun i => some (sg_1 + 1 + i)))))))] ++ rwL (dA 0) 32 sg_1 (fun _ _ => 0) 32) H := hP
  have hD : va_D A ([(ga, .inr (1, [.int 0, .int 0, .int 0, .int 0, .int 0, .null])), (sg_1, .inl (dA 9, 32, .inr (.inr (.inr (.inr (fun i => some (sg_1 + 1 + i)))))))] ++ rwL (dA 0) 32 sg_1 (fun _ _ => 0) 32) := hD
  refine va_putF (D := (dC, dI)) (ci := 1) (v := .ref sg_1) (ty := (tyX5 5)) (C := RX5) (T := TX5) (N := 6) hx hb hts in_X5 tyX5 tyX5_ok nmX5 hown hK hP hD hS 0 rfl rfl 5 (by decide) (hts _ q213) (fun _ h9 => h9) rfl hin rfl (by decide +kernel) rfl rfl (Nat.le_of_ble_eq_true rfl) dX5_init_2_13 (fun H locs hP hD hS => ?_)
  have hP : va_P (dC, dI) vwCl ([(ga, .inr (1, [.int 0, .int 0, .int 0, .int 0, .int 0, .ref sg_1])), (sg_1, .inl (dA 9, 32, .inr (.inr (.inr (.inr (fun i => some (sg_1 + 1 + i)))))))] ++ rwL (dA 0) 32 sg_1 (fun _ _ => 0) 32) H := hP
  have hD : va_D A ([(ga, .inr (1, [.int 0, .int 0, .int 0, .int 0, .int 0, .ref sg_1])), (sg_1, .inl (dA 9, 32, .inr (.inr (.inr (.inr (fun i => some (sg_1 + 1 + i)))))))] ++ rwL (dA 0) 32 sg_1 (fun _ _ => 0) 32) := hD
  refine lv_aload_n hx hb dX5_init_2_16 rfl (lv_at hl 0 rfl) ?_
  refine lv_iload_n hx hb dX5_init_2_17 rfl (lv_at hl 1 rfl) ?_
  refine va_putF (D := (dC, dI)) (ci := 1) (v := .int (nI p0)) (ty := .int) (C := RX5) (T := TX5) (N := 6) hx hb hts in_X5 tyX5 tyX5_ok nmX5 hown hK hP hD hS 0 rfl rfl 0 (by decide) (hts _ q200) (fun _ h9 => h9) rfl hin rfl (by decide +kernel) rfl rfl (Nat.le_of_ble_eq_true rfl) dX5_init_2_18 (fun H locs hP hD hS => ?_)
  have hP : va_P (dC, dI) vwCl ([(ga, .inr (1, [.int (nI p0), .int 0, .int 0, .int 0, .int 0, .ref sg_1])), (sg_1, .inl (dA 9, 32, .inr (.inr (.inr (.inr (fun i => some (sg_1 + 1 + i)))))))] ++ rwL (dA 0) 32 sg_1 (fun _ _ => 0) 32) H := hP
  have hD : va_D A ([(ga, .inr (1, [.int (nI p0), .int 0, .int 0, .int 0, .int 0, .ref sg_1])), (sg_1, .inl (dA 9, 32, .inr (.inr (.inr (.inr (fun i => some (sg_1 + 1 + i)))))))] ++ rwL (dA 0) 32 sg_1 (fun _ _ => 0) 32) := hD
  refine lv_aload_n hx hb dX5_init_2_21 rfl (lv_at hl 0 rfl) ?_
  refine lv_iload_n hx hb dX5_init_2_22 rfl (lv_at hl 2 rfl) ?_
  refine va_putF (D := (dC, dI)) (ci := 1) (v := .int (nI q0)) (ty := .int) (C := RX5) (T := TX5) (N := 6) hx hb hts in_X5 tyX5 tyX5_ok nmX5 hown hK hP hD hS 0 rfl rfl 1 (by decide) (hts _ q202) (fun _ h9 => h9) rfl hin rfl (by decide +kernel) rfl rfl (Nat.le_of_ble_eq_true rfl) dX5_init_2_23 (fun H locs hP hD hS => ?_)
  have hP : va_P (dC, dI) vwCl ([(ga, .inr (1, [.int (nI p0), .int (nI q0), .int 0, .int 0, .int 0, .ref sg_1])), (sg_1, .inl (dA 9, 32, .inr (.inr (.inr (.inr (fun i => some (sg_1 + 1 + i)))))))] ++ rwL (dA 0) 32 sg_1 (fun _ _ => 0) 32) H := hP
  have hD : va_D A ([(ga, .inr (1, [.int (nI p0), .int (nI q0), .int 0, .int 0, .int 0, .ref sg_1])), (sg_1, .inl (dA 9, 32, .inr (.inr (.inr (.inr (fun i => some (sg_1 + 1 + i)))))))] ++ rwL (dA 0) 32 sg_1 (fun _ _ => 0) 32) := hD
  refine lv_aload_n hx hb dX5_init_2_26 rfl (lv_at hl 0 rfl) ?_
  refine lv_iload_n hx hb dX5_init_2_27 rfl (lv_at hl 3 rfl) ?_
  refine va_putF (D := (dC, dI)) (ci := 1) (v := .int (nI r0)) (ty := .int) (C := RX5) (T := TX5) (N := 6) hx hb hts in_X5 tyX5 tyX5_ok nmX5 hown hK hP hD hS 0 rfl rfl 2 (by decide) (hts _ q205) (fun _ h9 => h9) rfl hin rfl (by decide +kernel) rfl rfl (Nat.le_of_ble_eq_true rfl) dX5_init_2_28 (fun H locs hP hD hS => ?_)
  have hP : va_P (dC, dI) vwCl ([(ga, .inr (1, [.int (nI p0), .int (nI q0), .int (nI r0), .int 0, .int 0, .ref sg_1])), (sg_1, .inl (dA 9, 32, .inr (.inr (.inr (.inr (fun i => some (sg_1 + 1 + i)))))))] ++ rwL (dA 0) 32 sg_1 (fun _ _ => 0) 32) H := hP
  have hD : va_D A ([(ga, .inr (1, [.int (nI p0), .int (nI q0), .int (nI r0), .int 0, .int 0, .ref sg_1])), (sg_1, .inl (dA 9, 32, .inr (.inr (.inr (.inr (fun i => some (sg_1 + 1 + i)))))))] ++ rwL (dA 0) 32 sg_1 (fun _ _ => 0) 32) := hD
  refine lv_aload_n hx hb dX5_init_2_31 rfl (lv_at hl 0 rfl) ?_
  refine lv_iload_n hx hb dX5_init_2_32 rfl (lv_at hl 1 rfl) ?_
  refine lv_iload_n hx hb dX5_init_2_33 rfl (lv_at hl 2 rfl) ?_
  refine lv_iadd hx hb dX5_init_2_34 ?_
  refine e_i (y := nI (p0 + q0)) (nI_add _ _) ?_
  refine lv_iload_n hx hb dX5_init_2_35 rfl (lv_at hl 3 rfl) ?_
  refine lv_iadd hx hb dX5_init_2_36 ?_
  refine e_i (y := nI (p0 + q0 + r0)) (nI_add _ _) ?_
  refine va_putF (D := (dC, dI)) (ci := 1) (v := .int (nI (p0 + q0 + r0))) (ty := .int) (C := RX5) (T := TX5) (N := 6) hx hb hts in_X5 tyX5 tyX5_ok nmX5 hown hK hP hD hS 0 rfl rfl 3 (by decide) (hts _ q207) (fun _ h9 => h9) rfl hin rfl (by decide +kernel) rfl rfl (Nat.le_of_ble_eq_true rfl) dX5_init_2_37 (fun H locs hP hD hS => ?_)
  have hP : va_P (dC, dI) vwCl ([(ga, .inr (1, [.int (nI p0), .int (nI q0), .int (nI r0), .int (nI (p0 + q0 + r0)), .int 0, .ref sg_1])), (sg_1, .inl (dA 9, 32, .inr (.inr (.inr (.inr (fun i => some (sg_1 + 1 + i)))))))] ++ rwL (dA 0) 32 sg_1 (fun _ _ => 0) 32) H := hP
  have hD : va_D A ([(ga, .inr (1, [.int (nI p0), .int (nI q0), .int (nI r0), .int (nI (p0 + q0 + r0)), .int 0, .ref sg_1])), (sg_1, .inl (dA 9, 32, .inr (.inr (.inr (.inr (fun i => some (sg_1 + 1 + i)))))))] ++ rwL (dA 0) 32 sg_1 (fun _ _ => 0) 32) := hD
  refine lv_aload_n hx hb dX5_init_2_40 rfl (lv_at hl 0 rfl) ?_
  refine lv_iconst (v := nI 1) hx hb dX5_init_2_41 (by decide) ?_
  refine lv_aload_n hx hb dX5_init_2_42 rfl (lv_at hl 0 rfl) ?_
  refine va_get (D := (dC, dI)) (ci := 1) (v := .int (nI (p0 + q0 + r0))) (C := RX5) (T := TX5) (N := 6) hx hb hts in_X5 hown hK hP 0 rfl rfl 3 (by decide) (hts _ q207) (fun _ h9 => h9) rfl dX5_init_2_43 ?_
  refine lv_ishl hx hb dX5_init_2_46 ?_
  refine e_i (y := nI (2 ^ (p0 + q0 + r0))) (n_shl1 (by omega)) ?_
  refine lv_iconst (v := nI 1) hx hb dX5_init_2_47 (by decide) ?_
  refine lv_isub hx hb dX5_init_2_48 ?_
  refine e_i (y := nI ((2 ^ (p0 + q0 + r0)) - 1)) (pk_sub (by omega)) ?_
  refine va_putF (D := (dC, dI)) (ci := 1) (v := .int (nI ((2 ^ (p0 + q0 + r0)) - 1))) (ty := .int) (C := RX5) (T := TX5) (N := 6) hx hb hts in_X5 tyX5 tyX5_ok nmX5 hown hK hP hD hS 0 rfl rfl 4 (by decide) (hts _ q211) (fun _ h9 => h9) rfl hin rfl (by decide +kernel) rfl rfl (Nat.le_of_ble_eq_true rfl) dX5_init_2_49 (fun H locs hP hD hS => ?_)
  have hP : va_P (dC, dI) vwCl ([(ga, .inr (1, [.int (nI p0), .int (nI q0), .int (nI r0), .int (nI (p0 + q0 + r0)), .int (nI ((2 ^ (p0 + q0 + r0)) - 1)), .ref sg_1])), (sg_1, .inl (dA 9, 32, .inr (.inr (.inr (.inr (fun i => some (sg_1 + 1 + i)))))))] ++ rwL (dA 0) 32 sg_1 (fun _ _ => 0) 32) H := hP
  have hD : va_D A ([(ga, .inr (1, [.int (nI p0), .int (nI q0), .int (nI r0), .int (nI (p0 + q0 + r0)), .int (nI ((2 ^ (p0 + q0 + r0)) - 1)), .ref sg_1])), (sg_1, .inl (dA 9, 32, .inr (.inr (.inr (.inr (fun i => some (sg_1 + 1 + i)))))))] ++ rwL (dA 0) 32 sg_1 (fun _ _ => 0) 32) := hD
  refine lv_iconst (v := nI 0) hx hb dX5_init_2_52 (by decide) ?_
  refine lv_istore (lv' := [(4, .int (nI 0)), (0, .ref ga), (1, .int (nI p0)), (2, .int (nI q0)), (3, .int (nI r0))]) hx hb dX5_init_2_53 hl (by decide) rfl (fun ls hl => ?_)
  rw [show (fun _ _ => 0 : Nat → Nat → Int32) = sgF p0 q0 r0 0 0 from sgF_0] at hP hD
  have loop_2 : ∀ (n9_2 : Nat) (ka : Nat) (H : Heap) (locs : List Loc) (ls : Array Slot), 33 - ka < n9_2 → (ka ≤ 2 ^ (p0 + q0 + r0)) → va_P (dC, dI) vwCl ([(ga, .inr (1, [.int (nI p0), .int (nI q0), .int (nI r0), .int (nI (p0 + q0 + r0)), .int (nI ((2 ^ (p0 + q0 + r0)) - 1)), .ref sg_1])), (sg_1, .inl (dA 9, 32, .inr (.inr (.inr (.inr (fun i => some (sg_1 + 1 + i)))))))] ++ rwL (dA 0) 32 sg_1 (sgF p0 q0 r0 ka 0) 32) H → va_D A ([(ga, .inr (1, [.int (nI p0), .int (nI q0), .int (nI r0), .int (nI (p0 + q0 + r0)), .int (nI ((2 ^ (p0 + q0 + r0)) - 1)), .ref sg_1])), (sg_1, .inl (dA 9, 32, .inr (.inr (.inr (.inr (fun i => some (sg_1 + 1 + i)))))))] ++ rwL (dA 0) 32 sg_1 (sgF p0 q0 r0 ka 0) 32) → va_S A s.heap H locs → lv_has ls 6 [(0, .ref ga), (1, .int (nI p0)), (2, .int (nI q0)), (3, .int (nI r0)), (4, .int (nI ka))] → W p l e ({ frames := 3, cells := 33, slots := 1056, locals := 180 } : Room) s m args below meth c H locs (0 + 1 + 32) (0 + 32 + 32 * 32) Q (F0 m 55 ls []) := by
    intro n9_2
    induction n9_2 with
    | zero => intro ka H locs ls hm_2; exact absurd hm_2 (Nat.not_lt_zero _)
    | succ n9_2 ih_2 =>
      intro ka H locs ls hm_2 hka hP hD hS hl
      refine lv_iload hx hb dX5_init_2_55 (lv_at hl 4 rfl) ?_
      refine lv_aload_n hx hb dX5_init_2_57 rfl (lv_at hl 0 rfl) ?_
      refine va_get (D := (dC, dI)) (ci := 1) (v := .int (nI ((2 ^ (p0 + q0 + r0)) - 1))) (C := RX5) (T := TX5) (N := 6) hx hb hts in_X5 hown hK hP 0 rfl rfl 4 (by decide) (hts _ q211) (fun _ h9 => h9) rfl dX5_init_2_58 ?_
      refine lv_icmp_gt (tgt := 106) hx hb dX5_init_2_61 (by decide) (fun c_61 => ?_) (fun c_61 => ?_)
      · have c_61 : ((2 ^ (p0 + q0 + r0)) - 1) < ka := (nI_ltI (a := ((2 ^ (p0 + q0 + r0)) - 1)) (b := ka) (by omega) (by omega)).mp c_61
        obtain rfl : ka = 2 ^ (p0 + q0 + r0) := by omega
        rw [sgF_T] at hP hD
        have hP : va_P (dC, dI) vwCl ([(ga, .inr (1, [.int (nI p0), .int (nI q0), .int (nI r0), .int (nI (p0 + q0 + r0)), .int (nI ((2 ^ (p0 + q0 + r0)) - 1)), .ref sg_1])), (sg_1, .inl (dA 9, 32, .inr (.inr (.inr (.inr (fun i => some (sg_1 + 1 + i)))))))] ++ rwL (dA 0) 32 sg_1 (sgT p0 q0 r0) 32) H := hP
        have hD : va_D A ([(ga, .inr (1, [.int (nI p0), .int (nI q0), .int (nI r0), .int (nI (p0 + q0 + r0)), .int (nI ((2 ^ (p0 + q0 + r0)) - 1)), .ref sg_1])), (sg_1, .inl (dA 9, 32, .inr (.inr (.inr (.inr (fun i => some (sg_1 + 1 + i)))))))] ++ rwL (dA 0) 32 sg_1 (sgT p0 q0 r0) 32) := hD
        subst hQe
        refine W.widen (k := 33) (n := 1056) (by first | decide | omega) (by first | decide | omega) ?_
        exact W.vret hx hb hr (fun tz ht hW => ⟨⟨sg_1, rfl, trivial, ht ▸ hP, hD, trivial⟩, hS.F ht⟩) hS.2.2 dX5_init_2_106
      · have c_61 : ¬ ((2 ^ (p0 + q0 + r0)) - 1) < ka := fun h => c_61 ((nI_ltI (a := ((2 ^ (p0 + q0 + r0)) - 1)) (b := ka) (by omega) (by omega)).mpr h)
        have hka9 : ka < 2 ^ (p0 + q0 + r0) := by omega
        refine lv_iconst (v := nI 0) hx hb dX5_init_2_64 (by decide) ?_
        refine lv_istore (lv' := [(5, .int (nI 0)), (0, .ref ga), (1, .int (nI p0)), (2, .int (nI q0)), (3, .int (nI r0)), (4, .int (nI ka))]) hx hb dX5_init_2_65 hl (by decide) rfl (fun ls hl => ?_)
        have loop_3 : ∀ (n9_3 : Nat) (kb : Nat) (H : Heap) (locs : List Loc) (ls : Array Slot), 33 - kb < n9_3 → (kb ≤ 2 ^ (p0 + q0 + r0)) → va_P (dC, dI) vwCl ([(ga, .inr (1, [.int (nI p0), .int (nI q0), .int (nI r0), .int (nI (p0 + q0 + r0)), .int (nI ((2 ^ (p0 + q0 + r0)) - 1)), .ref sg_1])), (sg_1, .inl (dA 9, 32, .inr (.inr (.inr (.inr (fun i => some (sg_1 + 1 + i)))))))] ++ rwL (dA 0) 32 sg_1 (sgF p0 q0 r0 ka kb) 32) H → va_D A ([(ga, .inr (1, [.int (nI p0), .int (nI q0), .int (nI r0), .int (nI (p0 + q0 + r0)), .int (nI ((2 ^ (p0 + q0 + r0)) - 1)), .ref sg_1])), (sg_1, .inl (dA 9, 32, .inr (.inr (.inr (.inr (fun i => some (sg_1 + 1 + i)))))))] ++ rwL (dA 0) 32 sg_1 (sgF p0 q0 r0 ka kb) 32) → va_S A s.heap H locs → lv_has ls 6 [(0, .ref ga), (1, .int (nI p0)), (2, .int (nI q0)), (3, .int (nI r0)), (4, .int (nI ka)), (5, .int (nI kb))] → W p l e ({ frames := 3, cells := 33, slots := 1056, locals := 180 } : Room) s m args below meth c H locs (0 + 1 + 32) (0 + 32 + 32 * 32) Q (F0 m 67 ls []) := by
          intro n9_3
          induction n9_3 with
          | zero => intro kb H locs ls hm_3; exact absurd hm_3 (Nat.not_lt_zero _)
          | succ n9_3 ih_3 =>
            intro kb H locs ls hm_3 hkb hP hD hS hl
            refine lv_iload hx hb dX5_init_2_67 (lv_at hl 5 rfl) ?_
            refine lv_aload_n hx hb dX5_init_2_69 rfl (lv_at hl 0 rfl) ?_
            refine va_get (D := (dC, dI)) (ci := 1) (v := .int (nI ((2 ^ (p0 + q0 + r0)) - 1))) (C := RX5) (T := TX5) (N := 6) hx hb hts in_X5 hown hK hP 0 rfl rfl 4 (by decide) (hts _ q211) (fun _ h9 => h9) rfl dX5_init_2_70 ?_
            refine lv_icmp_gt (tgt := 100) hx hb dX5_init_2_73 (by decide) (fun c_73 => ?_) (fun c_73 => ?_)
            · have c_73 : ((2 ^ (p0 + q0 + r0)) - 1) < kb := (nI_ltI (a := ((2 ^ (p0 + q0 + r0)) - 1)) (b := kb) (by omega) (by omega)).mp c_73
              obtain rfl : kb = 2 ^ (p0 + q0 + r0) := by omega
              rw [sgF_e hka9] at hP hD
              have hP : va_P (dC, dI) vwCl ([(ga, .inr (1, [.int (nI p0), .int (nI q0), .int (nI r0), .int (nI (p0 + q0 + r0)), .int (nI ((2 ^ (p0 + q0 + r0)) - 1)), .ref sg_1])), (sg_1, .inl (dA 9, 32, .inr (.inr (.inr (.inr (fun i => some (sg_1 + 1 + i)))))))] ++ rwL (dA 0) 32 sg_1 (sgF p0 q0 r0 (ka + 1) 0) 32) H := hP
              have hD : va_D A ([(ga, .inr (1, [.int (nI p0), .int (nI q0), .int (nI r0), .int (nI (p0 + q0 + r0)), .int (nI ((2 ^ (p0 + q0 + r0)) - 1)), .ref sg_1])), (sg_1, .inl (dA 9, 32, .inr (.inr (.inr (.inr (fun i => some (sg_1 + 1 + i)))))))] ++ rwL (dA 0) 32 sg_1 (sgF p0 q0 r0 (ka + 1) 0) 32) := hD
              refine lv_iinc (v := nI (ka + 1)) (lv' := [(4, .int (nI (ka + 1))), (0, .ref ga), (1, .int (nI p0)), (2, .int (nI q0)), (3, .int (nI r0)), (5, .int (nI (2 ^ (p0 + q0 + r0))))]) hx hb dX5_init_2_100 hl (k := 4) rfl (by exact nI_add _ 1) (by decide) rfl (fun ls hl => ?_)
              refine lv_goto (tgt := 55) hx hb dX5_init_2_103 (by decide) ?_
              exact ih_2 (ka + 1) H locs ls (by omega) (by omega) (hP.sub [0, 1, 2, 3, 4, 5, 6, 7, 8, 9, 10, 11, 12, 13, 14, 15, 16, 17, 18, 19, 20, 21, 22, 23, 24, 25, 26, 27, 28, 29, 30, 31, 32, 33] rfl) (hD.sub [0, 1, 2, 3, 4, 5, 6, 7, 8, 9, 10, 11, 12, 13, 14, 15, 16, 17, 18, 19, 20, 21, 22, 23, 24, 25, 26, 27, 28, 29, 30, 31, 32, 33] (by decide) rfl) hS (lv_sub hl [1, 2, 3, 4, 0] rfl)
            · have c_73 : ¬ ((2 ^ (p0 + q0 + r0)) - 1) < kb := fun h => c_73 ((nI_ltI (a := ((2 ^ (p0 + q0 + r0)) - 1)) (b := kb) (by omega) (by omega)).mpr h)
              have hkb9 : kb < 2 ^ (p0 + q0 + r0) := by omega
              refine lv_aload_n hx hb dX5_init_2_76 rfl (lv_at hl 0 rfl) ?_
              refine va_get (D := (dC, dI)) (ci := 1) (v := .ref sg_1) (C := RX5) (T := TX5) (N := 6) hx hb hts in_X5 hown hK hP 0 rfl rfl 5 (by decide) (hts _ q213) (fun _ h9 => h9) rfl dX5_init_2_77 ?_
              refine lv_iload hx hb dX5_init_2_80 (lv_at hl 4 rfl) ?_
              refine a_aldr hx hb hK hP 1 9 rfl rfl (by omega) (by decide) dX5_init_2_82 ?_
              refine e_v (y := .ref (sg_1 + 1 + ka)) (rfl) ?_
              refine lv_iload hx hb dX5_init_2_83 (lv_at hl 5 rfl) ?_
              refine lv_aload_n hx hb dX5_init_2_85 rfl (lv_at hl 0 rfl) ?_
              refine lv_iload hx hb dX5_init_2_86 (lv_at hl 4 rfl) ?_
              refine lv_iload hx hb dX5_init_2_88 (lv_at hl 5 rfl) ?_
              refine s_i (va_runV (As := [.int (nI ka), .int (nI kb)]) (rest := [.int (nI kb), .ref (sg_1 + 1 + ka)]) ⟨hx, hb, hml, hown, hts⟩ (x5_signOf Z Y ga sg_1 (fun i => sg_1 + 1 + i) p0 q0 r0 ka kb hn (by omega) (by omega)) (cwV 2 hts (lw_V q194 q196 qs0 q101 q197) rfl rfl rfl (by decide +kernel) ⟨Nat.le_of_ble_eq_true rfl, Nat.le_of_ble_eq_true rfl⟩) (gP_V (va_recv hK hP (ci := 1) (q0 := 0) rfl rfl) hG hS (fun q _ h => h.elim) (hP.sub (ws' := [(ga, .inr (1, [.int (nI p0), .int (nI q0), .int (nI r0), .int (nI (p0 + q0 + r0)), .int (nI ((2 ^ (p0 + q0 + r0)) - 1)), .ref sg_1]))]) [0] rfl)) rfl rfl hl.1 rfl (lv_room (Nat.le_of_ble_eq_true rfl)) dX5_init_2_90 ⟨by first | decide | omega | (show _ ≤ (33 : Nat); omega), by first | decide | omega | (show _ ≤ (1056 : Nat); omega)⟩) ?_
              refine a_iast hx hb hK hP hD hS (ka + 2) 0 (rwL_2 (by omega)) rfl (by omega) (by decide) dX5_init_2_93 (fun H locs hP hD hS => ?_)
              rw [rwL_2s (by omega), sgF_s rfl hkb9] at hP hD
              have hP : va_P (dC, dI) vwCl ([(ga, .inr (1, [.int (nI p0), .int (nI q0), .int (nI r0), .int (nI (p0 + q0 + r0)), .int (nI ((2 ^ (p0 + q0 + r0)) - 1)), .ref sg_1])), (sg_1, .inl (dA 9, 32, .inr (.inr (.inr (.inr (fun i => some (sg_1 + 1 + i)))))))] ++ rwL (dA 0) 32 sg_1 (sgF p0 q0 r0 ka (kb + 1)) 32) H := hP
              have hD : va_D A ([(ga, .inr (1, [.int (nI p0), .int (nI q0), .int (nI r0), .int (nI (p0 + q0 + r0)), .int (nI ((2 ^ (p0 + q0 + r0)) - 1)), .ref sg_1])), (sg_1, .inl (dA 9, 32, .inr (.inr (.inr (.inr (fun i => some (sg_1 + 1 + i)))))))] ++ rwL (dA 0) 32 sg_1 (sgF p0 q0 r0 ka (kb + 1)) 32) := hD
              refine lv_iinc (v := nI (kb + 1)) (lv' := [(5, .int (nI (kb + 1))), (0, .ref ga), (1, .int (nI p0)), (2, .int (nI q0)), (3, .int (nI r0)), (4, .int (nI ka))]) hx hb dX5_init_2_94 hl (k := 5) rfl (by exact nI_add _ 1) (by decide) rfl (fun ls hl => ?_)
              refine lv_goto (tgt := 67) hx hb dX5_init_2_97 (by decide) ?_
              exact ih_3 (kb + 1) H locs ls (by omega) (by omega) (hP.sub [0, 1, 2, 3, 4, 5, 6, 7, 8, 9, 10, 11, 12, 13, 14, 15, 16, 17, 18, 19, 20, 21, 22, 23, 24, 25, 26, 27, 28, 29, 30, 31, 32, 33] rfl) (hD.sub [0, 1, 2, 3, 4, 5, 6, 7, 8, 9, 10, 11, 12, 13, 14, 15, 16, 17, 18, 19, 20, 21, 22, 23, 24, 25, 26, 27, 28, 29, 30, 31, 32, 33] (by decide) rfl) hS (lv_sub hl [1, 2, 3, 4, 5, 0] rfl)
        exact loop_3 _ 0 H locs ls (Nat.lt_succ_self _) (by omega) hP hD hS (lv_sub hl [1, 2, 3, 4, 5, 0] rfl)
  exact loop_2 _ 0 H locs ls (Nat.lt_succ_self _) (by omega) hP hD hS (lv_sub hl [1, 2, 3, 4, 0] rfl)
