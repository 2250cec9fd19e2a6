/-! StringBuilder -/
theorem lw_SU {own : String} {idx : Nat} {y : MethodName} {b : ByteArray} {L : Nat} {r : Option FieldType} (h1 : Cond.methodLink own idx y ∈ lw_all) (h2 : Cond.sameMethod y.cls y.cls y.name y.desc ∈ lw_all) (h3 : Cond.superclass own y.cls ∈ lw_all) (h4 : Cond.instanceMethod y ∈ lw_all) (h5 : Cond.initialized y.cls ∈ lw_all) (h6 : Cond.code y b L r ∈ lw_all) : GoodIn lw_all (va_wsSU own idx y (ws_ y b L r)) := by
  refine lw_app ?_ (lw_meth h6)
  intro w hw
  simp only [List.mem_cons, List.not_mem_nil, or_false] at hw
  rcases hw with e | e | e | e | e
  · rw [e]; exact h1
  · rw [e]; exact h2
  · rw [e]; exact h3
  · rw [e]; exact h4
  · rw [e]; exact h5
theorem selZ {l : Launch} {dC : Nat → ClassId} {dI : Nat → Nat → Nat} {dA : Nat → ClassId} {s0 s : State} {b0 : Addr} {A : Nat → Prop} {H : Heap} {args : Array Value} (Z : Z0 l dC dI dA s0 b0) (hG : Gd s0 A s H) {y : MethodName} (hp : Cond.privateMethod y ∈ lw_tbl) (hi : Cond.instanceMethod y ∈ lw_all) (hy : y.cls ≠ "java/lang/invoke/MethodHandle" ∧ y.cls ≠ "java/lang/invoke/VarHandle") (hc : "java/lang/AbstractStringBuilder" = y.cls) : (Cond.selects "java/lang/StringBuilder" y y).before args s = true := by
  have T : ∀ w ∈ lw_all, w.before #[Value.ref b0] s0 = true := fun w h => Z.2.1 w (List.mem_filter.mp h).1
  have h0 : (Cond.selects "java/lang/StringBuilder" y y).before #[Value.ref b0] s0 = true := sel_priv (z := ⟨"java/lang/AbstractStringBuilder", "isLatin1", "()Z"⟩) hy hc (T _ q1465) (T _ q1463) (Z.2.1 _ hp) (T _ hi)
  exact pay_in (big := [Cond.selects "java/lang/StringBuilder" y y]) (ws := [Cond.selects "java/lang/StringBuilder" y y]) (s := s0) (args := #[Value.ref b0]) (fun w h => by rw [List.mem_singleton.mp h]; exact h0) (fun w h => ⟨h, by rw [List.mem_singleton.mp h]; exact Or.inl rfl⟩) _ List.mem_cons_self args s hG.1
theorem n_sh0 {a : Nat} : nI a <<< (nI 0 &&& 31) = nI (a * 2 ^ 0) := by rw [Nat.pow_zero, Nat.mul_one]; exact sb_shl0 (nI a)
theorem mx_le {a b : Nat} (h : a ≤ b) (hb : b < 2 ^ 31) : (if nI a < nI b then nI b else nI a) = nI b := by
  by_cases e : a = b
  · subst e; rw [if_neg (nI_nlt (Nat.le_refl _) hb)]
  · rw [if_pos (nI_lt (by omega) hb)]
theorem cpy_0 {f g : Nat → Int32} {m j : Nat} (h : j < m) (hm : m < 2 ^ 31) : va_cpy f g (nI 0).toNatClampNeg (nI 0).toNatClampNeg (nI m).toNatClampNeg j = f j := by
  rw [nI_clamp (by decide), nI_clamp hm, pk_cpy_in (by omega) (by omega)]
  congr 1
  omega
theorem cpy_fit {f : Nat → Int32} {a b n : Nat} (hf : sb_Fit f) : sb_Fit (va_cpy f (fun _ => 0) a b n) := sb_fitC hf sb_fit0
set_option maxHeartbeats 4000000 in
theorem j22_copyOf {l : Launch} {dC : Nat → ClassId} {dI : Nat → Nat → Nat} {dA : Nat → ClassId} {s0 : State} {b0 : Addr} (Z : Z0 l dC dI dA s0 b0) (A : Nat → Prop) (sz : Nat) (hA : ∀ q : Nat, sz ≤ q → A q) {σ : Nat → Nat} {dS : va_G} (Y2 : S2 (dC, dI) dS dA σ s0) (bv bm bk : Nat) (f : Nat → Int32) (hm : bm < bk) (hk : bk ≤ 20000) (hf : sb_Fit f) : Met l yJ22_copyOf (ws_ yJ22_copyOf cJ22_copyOf 3 (some (.array .byte))) ({ frames := 2, cells := 1, slots := bk, locals := 120 } : Room) (gP [.ref bv, .int (nI bk)] s0 A (fun H => H.size = sz ∧ va_P (dC, dI) vwCl [(bv, .inl (dA 2, bm, .inl f))] H ∧ va_D A [(bv, .inl (dA 2, bm, .inl f))])) (va_Qr (S := Nat → Int32) (fun u => (∀ j, j < bm → u j = f j) ∧ sb_Fit u) (B1r (dC, dI) A (fun u q => [(bv, .inl (dA 2, bm, .inl f)), (q, .inl (dA 2, bk, .inl u))]) (fun _ _ _ => True)) A) 1 bk A := by
  refine Met.ofW (cc := cJ22_copyOf) (maxL := 3) (ret := (some (.array .byte))) (by decide) rfl ?_
  intro p e s m args below meth c s₁ B hml hv
  obtain ⟨hav, hG, hsz, hP, hD⟩ := hv
  have hx := B.exec
  have hb := B.bytes
  have hr := B.returns
  have hts := atoms_spec (ws := (ws_ yJ22_copyOf cJ22_copyOf 3 (some (.array .byte)))) B.pre
  have hts : ∀ w ∈ lw_all, w.before _ s = true := fun w h => hts w (List.mem_cons_of_mem _ h)
  have hown : s.vm.findClass RJ22 = some m.cls := findClass_of_methodNamed B.named
  have hlocks := B.notSynchronized
  have hK := hG.K Z
  subst hsz
  have hS : va_S A s.heap s.heap [] := va_S.rf
  have hl := lv_entry ([.ref bv, .int (nI bk)]) (n := 3) (Nat.le_of_ble_eq_true rfl)
  rw [show entryFrame m args 3 = entryFrame m ([.ref bv, .int (nI bk)] : List Value).toArray 3 from by rw [hav], lg_entry_eq]
  generalize (lg_sl ([.ref bv, .int (nI bk)]) ++ List.replicate (3 - (lg_sl ([.ref bv, .int (nI bk)])).length) Slot.unset).toArray = ls at hl ⊢
  have hl : lv_has ls 3 [(0, .ref bv), (1, .int (nI bk))] := hl
  generalize hQe : MQ below _ _ s _ _ _ = Q
  change W p l e ({ frames := 2, cells := 1, slots := bk, locals := 120 } : Room) s m args below meth c s.heap [] 0 0 Q (F0 m 0 ls [])
  refine lv_iload_n hx hb dJ22_copyOf_0 rfl (lv_at hl 1 rfl) ?_
  refine lv_aload_n hx hb dJ22_copyOf_1 rfl (lv_at hl 0 rfl) ?_
  refine va_alen (v := nI bm) hx hb hK hP 0 2 rfl rfl rfl dJ22_copyOf_2 ?_
  refine lv_icmp_ne (tgt := 14) hx hb dJ22_copyOf_3 (by decide) (fun c_3 => ?_) (fun c_3 => ?_)
  · have c_3 : ¬ bk = bm := fun h => c_3 ((nI_eq (a := bk) (b := bm) (by omega) (by omega)).mpr h)
    refine lv_iload_n hx hb dJ22_copyOf_14 rfl (lv_at hl 1 rfl) ?_
    refine a_newa (D := (dC, dI)) (atype := .byte) (N' := bk) (a0 := (bk, .inl (fun _ => 0))) hx hb (hts _ q283) rfl hK hP hD hS hA 2 rfl (fun _ => ra_byte) (fun _ => rfl) (nI_pos (by omega)) (nI_clamp (by omega)) (show bk * 1 ≤ _ by omega) (by first | decide | omega | (show _ ≤ (1 : Nat); omega)) (by first | decide | omega | (show _ ≤ (bk : Nat); omega)) dJ22_copyOf_15 (fun na_1 H locs hP hD hS => ?_)
    have hP : va_P (dC, dI) vwCl [(bv, .inl (dA 2, bm, .inl f)), (na_1, .inl (dA 2, bk, .inl (fun _ => 0)))] H := hP
    have hD : va_D A [(bv, .inl (dA 2, bm, .inl f)), (na_1, .inl (dA 2, bk, .inl (fun _ => 0)))] := hD
    refine lv_astore_n (lv' := [(2, .ref na_1), (0, .ref bv), (1, .int (nI bk))]) hx hb dJ22_copyOf_17 rfl hl (by decide) rfl (fun ls hl => ?_)
    refine lv_aload_n hx hb dJ22_copyOf_18 rfl (lv_at hl 1 rfl) ?_
    refine lv_iconst (v := nI 0) hx hb dJ22_copyOf_19 (by decide) ?_
    refine lv_aload_n hx hb dJ22_copyOf_20 rfl (lv_at hl 0 rfl) ?_
    refine lv_iconst (v := nI 0) hx hb dJ22_copyOf_21 (by decide) ?_
    refine lv_aload_n hx hb dJ22_copyOf_22 rfl (lv_at hl 1 rfl) ?_
    refine va_alen (v := nI bm) hx hb hK hP 0 2 rfl rfl rfl dJ22_copyOf_23 ?_
    refine lv_iload_n hx hb dJ22_copyOf_24 rfl (lv_at hl 2 rfl) ?_
    refine va_mmin hx hb (hml.trans hl.1.symm) hown (hts _ q1458) (hts _ q1232) (hts _ q115) (hts _ q1233) (Nat.le_of_ble_eq_true rfl) (Nat.le_of_ble_eq_true rfl) (by first | exact Nat.zero_le _ | decide | omega | (show _ ≤ (1 : Nat); omega)) (by first | exact Nat.zero_le _ | decide | omega | (show _ ≤ (bk : Nat); omega)) dJ22_copyOf_25 ?_
    refine e_i (y := nI bm) (if_neg (nI_nlt (by omega) (by omega))) ?_
    refine va_copyi hx hb (hml.trans hl.1.symm) hown (hts _ q1459) (hts _ q1461) (hts _ q1460) (hts _ q137) hK hP hD hS 0 1 2 2 rfl rfl rfl rfl rfl (nI_pos (by omega)) (nI_pos (by omega)) (nI_pos (by omega)) (by rw [nI_clamp (by omega), nI_clamp (by omega)]; omega) (by rw [nI_clamp (by omega), nI_clamp (by omega)]; omega) (fun i _ => hf _) (Nat.le_of_ble_eq_true rfl) (Nat.le_of_ble_eq_true rfl) dJ22_copyOf_28 (fun H locs hP hD hS => ?_)
    have hP : va_P (dC, dI) vwCl [(bv, .inl (dA 2, bm, .inl f)), (na_1, .inl (dA 2, bk, .inl (va_cpy f (fun _ => 0) ((nI 0).toNatClampNeg) ((nI 0).toNatClampNeg) ((nI bm).toNatClampNeg))))] H := hP
    have hD : va_D A [(bv, .inl (dA 2, bm, .inl f)), (na_1, .inl (dA 2, bk, .inl (va_cpy f (fun _ => 0) ((nI 0).toNatClampNeg) ((nI 0).toNatClampNeg) ((nI bm).toNatClampNeg))))] := hD
    refine lv_aload_n hx hb dJ22_copyOf_31 rfl (lv_at hl 0 rfl) ?_
    subst hQe
    refine W.widen (k := 1) (n := bk) (by first | decide | omega) (by first | decide | omega) ?_
    exact W.aret (v := .ref na_1) hx hb hr (Or.inr ⟨_, rfl⟩) (Or.inr ⟨_, rfl⟩) (fun tz ht hW => ⟨⟨(va_cpy f (fun _ => 0) ((nI 0).toNatClampNeg) ((nI 0).toNatClampNeg) ((nI bm).toNatClampNeg)), na_1, rfl, ⟨fun j hj => cpy_0 hj (by omega), cpy_fit hf⟩, B1r_at ht (hP.sub [0, 1] rfl) (hD.sub [0, 1] (by decide) rfl) trivial⟩, hS.F ht⟩) hS.2.2 dJ22_copyOf_32
  · have c_3 : bk = bm := (nI_eq (a := bk) (b := bm) (by omega) (by omega)).mp c_3
    exfalso; omega
set_option maxHeartbeats 4000000 in
theorem j21_newLength {l : Launch} {dC : Nat → ClassId} {dI : Nat → Nat → Nat} {dA : Nat → ClassId} {s0 : State} {b0 : Addr} (Z : Z0 l dC dI dA s0 b0) {σ : Nat → Nat} {dS : va_G} (Y2 : S2 (dC, dI) dS dA σ s0) (la lb lc : Nat) (h1 : lb ≤ lc) (h2 : lc ≤ 10000) (h3 : la ≤ 10000) (h4 : 0 < lc) : Met l yJ21_newLength (ws_ yJ21_newLength cJ21_newLength 4 (some .int)) ({ frames := 2, cells := 0, slots := 0, locals := 120 } : Room) (gP [.int (nI la), .int (nI lb), .int (nI lc)] s0 (fun _ => False) (fun H => True)) (vp_Si (fun r => r = nI (la + lc))) 0 0 (fun _ => False) := by
  refine Met.ofW (cc := cJ21_newLength) (maxL := 4) (ret := (some .int)) (by decide) rfl ?_
  intro p e s m args below meth c s₁ B hml hv
  obtain ⟨hav, hG, hno⟩ := hv
  have hx := B.exec
  have hb := B.bytes
  have hr := B.returns
  have hts := atoms_spec (ws := (ws_ yJ21_newLength cJ21_newLength 4 (some .int))) B.pre
  have hts : ∀ w ∈ lw_all, w.before _ s = true := fun w h => hts w (List.mem_cons_of_mem _ h)
  have hown : s.vm.findClass RJ21 = some m.cls := findClass_of_methodNamed B.named
  have hlocks := B.notSynchronized
  have hK := hG.K Z
  have hS : va_S (fun _ => False) s.heap s.heap [] := va_S.rf
  have hP : va_P (dC, dI) vwCl [] s.heap := fun k q h => by simp at h
  have hD : va_D (fun _ => False) [] := ⟨fun i j p q h => by simp at h, fun k q h => by simp at h⟩
  have hl := lv_entry ([.int (nI la), .int (nI lb), .int (nI lc)]) (n := 4) (Nat.le_of_ble_eq_true rfl)
  rw [show entryFrame m args 4 = entryFrame m ([.int (nI la), .int (nI lb), .int (nI lc)] : List Value).toArray 4 from by rw [hav], lg_entry_eq]
  generalize (lg_sl ([.int (nI la), .int (nI lb), .int (nI lc)]) ++ List.replicate (4 - (lg_sl ([.int (nI la), .int (nI lb), .int (nI lc)])).length) Slot.unset).toArray = ls at hl ⊢
  have hl : lv_has ls 4 [(0, .int (nI la)), (1, .int (nI lb)), (2, .int (nI lc))] := hl
  generalize hQe : MQ below _ _ s _ _ _ = Q
  change W p l e ({ frames := 2, cells := 0, slots := 0, locals := 120 } : Room) s m args below meth c s.heap [] 0 0 Q (F0 m 0 ls [])
  refine lv_iload_n hx hb dJ21_newLength_0 rfl (lv_at hl 0 rfl) ?_
  refine lv_iload_n hx hb dJ21_newLength_1 rfl (lv_at hl 1 rfl) ?_
  refine lv_iload_n hx hb dJ21_newLength_2 rfl (lv_at hl 2 rfl) ?_
  refine va_mmax hx hb (hml.trans hl.1.symm) hown (hts _ q1444) (hts _ q1229) (hts _ q115) (hts _ q1230) (Nat.le_of_ble_eq_true rfl) (Nat.le_of_ble_eq_true rfl) (by first | exact Nat.zero_le _ | decide | omega | (show _ ≤ (0 : Nat); omega)) (by first | exact Nat.zero_le _ | decide | omega | (show _ ≤ (0 : Nat); omega)) dJ21_newLength_3 ?_
  refine e_i (y := nI lc) (mx_le h1 (by omega)) ?_
  refine lv_iadd hx hb dJ21_newLength_6 ?_
  refine e_i (y := nI (la + lc)) (nI_add _ _) ?_
  refine lv_istore_n (lv' := [(3, .int (nI (la + lc))), (0, .int (nI la)), (1, .int (nI lb)), (2, .int (nI lc))]) hx hb dJ21_newLength_7 rfl hl (by decide) rfl (fun ls hl => ?_)
  refine lv_iconst (v := nI 0) hx hb dJ21_newLength_8 (by decide) ?_
  refine lv_iload_n hx hb dJ21_newLength_9 rfl (lv_at hl 0 rfl) ?_
  refine lv_icmp_ge (tgt := 21) hx hb dJ21_newLength_10 (by decide) (fun c_10 => ?_) (fun c_10 => ?_)
  · have c_10 : (la + lc) ≤ 0 := (nI_leI (a := (la + lc)) (b := 0) (by omega) (by omega)).mp c_10
    exfalso; omega
  · have c_10 : ¬ (la + lc) ≤ 0 := fun h => c_10 ((nI_leI (a := (la + lc)) (b := 0) (by omega) (by omega)).mpr h)
    refine lv_iload_n hx hb dJ21_newLength_13 rfl (lv_at hl 0 rfl) ?_
    refine lv_ldc hx hb hown (hts _ q1445) dJ21_newLength_14 ?_
    refine e_i (y := nI 2147483639) (by decide) ?_
    refine lv_icmp_gt (tgt := 21) hx hb dJ21_newLength_16 (by decide) (fun c_16 => ?_) (fun c_16 => ?_)
    · have c_16 : 2147483639 < (la + lc) := (nI_ltI (a := 2147483639) (b := (la + lc)) (by omega) (by omega)).mp c_16
      exfalso; omega
    · have c_16 : ¬ 2147483639 < (la + lc) := fun h => c_16 ((nI_ltI (a := 2147483639) (b := (la + lc)) (by omega) (by omega)).mpr h)
      refine lv_iload_n hx hb dJ21_newLength_19 rfl (lv_at hl 0 rfl) ?_
      subst hQe
      exact W.iret (v := nI (la + lc)) hx hb hr (fun tz ht hW => ⟨_, rfl, rfl, ht⟩) hS.2.2 dJ21_newLength_20
set_option maxHeartbeats 4000000 in
theorem j0_newCapacity {l : Launch} {dC : Nat → ClassId} {dI : Nat → Nat → Nat} {dA : Nat → ClassId} {s0 : State} {b0 : Addr} (Z : Z0 l dC dI dA s0 b0) {σ : Nat → Nat} {dS : va_G} (Y2 : S2 (dC, dI) dS dA σ s0) (sb bv bm n qq : Nat) (ml : Int32) (f : Nat → Int32) (h1 : ¬ qq ≤ bm) (h2 : qq ≤ 2 * bm + 2) (h3 : bm ≤ 5000) : Met l yJ0_newCapacity (ws_ yJ0_newCapacity cJ0_newCapacity 6 (some .int)) ({ frames := 3, cells := 0, slots := 0, locals := 180 } : Room) (gP [.ref sb, .int (nI qq)] s0 (fun _ => False) (fun H => va_P (dC, dI) vwCl [(sb, .inr (15, [.ref bv, .int (nI 0), .int ml, .int (nI n)])), (bv, .inl (dA 2, bm, .inl f))] H)) (vp_Si (fun r => r = nI (2 * bm + 2))) 0 0 (fun _ => False) := by
  refine Met.ofW (cc := cJ0_newCapacity) (maxL := 6) (ret := (some .int)) (by decide) rfl ?_
  intro p e s m args below meth c s₁ B hml hv
  obtain ⟨hav, hG, hP⟩ := hv
  have hx := B.exec
  have hb := B.bytes
  have hr := B.returns
  have hts := atoms_spec (ws := (ws_ yJ0_newCapacity cJ0_newCapacity 6 (some .int))) B.pre
  have hts : ∀ w ∈ lw_all, w.before _ s = true := fun w h => hts w (List.mem_cons_of_mem _ h)
  have hown : s.vm.findClass RJ0 = some m.cls := findClass_of_methodNamed B.named
  have hlocks := B.notSynchronized
  have hK := hG.K Z
  have hS : va_S (fun _ => False) s.heap s.heap [] := va_S.rf
  have hl := lv_entry ([.ref sb, .int (nI qq)]) (n := 6) (Nat.le_of_ble_eq_true rfl)
  rw [show entryFrame m args 6 = entryFrame m ([.ref sb, .int (nI qq)] : List Value).toArray 6 from by rw [hav], lg_entry_eq]
  generalize (lg_sl ([.ref sb, .int (nI qq)]) ++ List.replicate (6 - (lg_sl ([.ref sb, .int (nI qq)])).length) Slot.unset).toArray = ls at hl ⊢
  have hl : lv_has ls 6 [(0, .ref sb), (1, .int (nI qq))] := hl
  generalize hQe : MQ below _ _ s _ _ _ = Q
  change W p l e ({ frames := 3, cells := 0, slots := 0, locals := 180 } : Room) s m args below meth c s.heap [] 0 0 Q (F0 m 0 ls [])
  refine lv_aload_n hx hb dJ0_newCapacity_0 rfl (lv_at hl 0 rfl) ?_
  refine va_get (D := (dC, dI)) (ci := 15) (v := .ref bv) (C := RJ1) (T := TJ1) (N := 4) hx hb hts in_J1 hown hK hP 0 rfl rfl 0 (by decide) (hts _ q269) (fun _ h9 => h9) rfl dJ0_newCapacity_1 ?_
  refine va_alen (v := nI bm) hx hb hK hP 1 2 rfl rfl rfl dJ0_newCapacity_4 ?_
  refine lv_istore_n (lv' := [(2, .int (nI bm)), (0, .ref sb), (1, .int (nI qq))]) hx hb dJ0_newCapacity_5 rfl hl (by decide) rfl (fun ls hl => ?_)
  refine lv_iload_n hx hb dJ0_newCapacity_6 rfl (lv_at hl 2 rfl) ?_
  refine lv_aload_n hx hb dJ0_newCapacity_7 rfl (lv_at hl 1 rfl) ?_
  refine va_get (D := (dC, dI)) (ci := 15) (v := .int (nI 0)) (C := RJ1) (T := TJ1) (N := 4) hx hb hts in_J1 hown hK hP 0 rfl rfl 1 (by decide) (hts _ q270) (fun _ h9 => h9) rfl dJ0_newCapacity_8 ?_
  refine lv_ishl hx hb dJ0_newCapacity_11 ?_
  refine e_i (y := nI (qq * 2 ^ 0)) (n_sh0) ?_
  refine e_i (y := nI qq) (n_eq (by simp)) ?_
  refine lv_istore_n (lv' := [(3, .int (nI qq)), (2, .int (nI bm)), (0, .ref sb), (1, .int (nI qq))]) hx hb dJ0_newCapacity_12 rfl hl (by decide) rfl (fun ls hl => ?_)
  refine lv_iload_n hx hb dJ0_newCapacity_13 rfl (lv_at hl 0 rfl) ?_
  refine lv_iload_n hx hb dJ0_newCapacity_14 rfl (lv_at hl 1 rfl) ?_
  refine lv_isub hx hb dJ0_newCapacity_15 ?_
  refine e_i (y := nI (qq - bm)) (pk_sub (by omega)) ?_
  refine lv_istore (lv' := [(4, .int (nI (qq - bm))), (3, .int (nI qq)), (2, .int (nI bm)), (0, .ref sb), (1, .int (nI qq))]) hx hb dJ0_newCapacity_16 hl (by decide) rfl (fun ls hl => ?_)
  refine lv_iload_n hx hb dJ0_newCapacity_18 rfl (lv_at hl 2 rfl) ?_
  refine lv_iload hx hb dJ0_newCapacity_19 (lv_at hl 0 rfl) ?_
  refine lv_iload_n hx hb dJ0_newCapacity_21 rfl (lv_at hl 2 rfl) ?_
  refine lv_iconst (v := nI 2) hx hb dJ0_newCapacity_22 (by decide) ?_
  refine lv_aload_n hx hb dJ0_newCapacity_23 rfl (lv_at hl 3 rfl) ?_
  refine va_get (D := (dC, dI)) (ci := 15) (v := .int (nI 0)) (C := RJ1) (T := TJ1) (N := 4) hx hb hts in_J1 hown hK hP 0 rfl rfl 1 (by decide) (hts _ q270) (fun _ h9 => h9) rfl dJ0_newCapacity_24 ?_
  refine lv_ishl hx hb dJ0_newCapacity_27 ?_
  refine e_i (y := nI (2 * 2 ^ 0)) (n_sh0) ?_
  refine e_i (y := nI 2) (n_eq (by simp)) ?_
  refine lv_iadd hx hb dJ0_newCapacity_28 ?_
  refine e_i (y := nI (bm + 2)) (nI_add _ _) ?_
  refine s_i (va_runS (As := [.int (nI bm), .int (nI (qq - bm)), .int (nI (bm + 2))]) (rest := []) ⟨hx, hb, hml, hown, hts⟩ (j21_newLength Z Y2 bm (qq - bm) (bm + 2) (by omega) (by omega) (by omega) (by omega)) (va_cwS 3 hts (lw_S q1441 q1442 q135 q1443) rfl rfl rfl (by decide +kernel) ⟨Nat.le_of_ble_eq_true rfl, Nat.le_of_ble_eq_true rfl⟩) (gP_S hG hS (fun q _ h => h.elim) trivial) rfl rfl hl.1 rfl (lv_room (Nat.le_of_ble_eq_true rfl)) dJ0_newCapacity_29 ⟨by first | decide | omega | (show _ ≤ (0 : Nat); omega), by first | decide | omega | (show _ ≤ (0 : Nat); omega)⟩) ?_
  refine lv_istore (lv' := [(5, .int (nI (bm + (bm + 2)))), (4, .int (nI (qq - bm))), (3, .int (nI qq)), (2, .int (nI bm)), (0, .ref sb), (1, .int (nI qq))]) hx hb dJ0_newCapacity_32 hl (by decide) rfl (fun ls hl => ?_)
  have hl : lv_has ls 6 [(5, .int (nI (2 * bm + 2))), (4, .int (nI (qq - bm))), (3, .int (nI qq)), (2, .int (nI bm)), (0, .ref sb), (1, .int (nI qq))] := by rw [show nI (2 * bm + 2) = nI (bm + (bm + 2)) from n_eq (by omega)]; exact hl
  refine lv_iload hx hb dJ0_newCapacity_34 (lv_at hl 0 rfl) ?_
  refine lv_ldc hx hb hown (hts _ q1449) dJ0_newCapacity_36 ?_
  refine e_i (y := nI 2147483647) (by decide) ?_
  refine lv_icmp_ne (tgt := 51) hx hb dJ0_newCapacity_38 (by decide) (fun c_38 => ?_) (fun c_38 => ?_)
  · have c_38 : ¬ (2 * bm + 2) = 2147483647 := fun h => c_38 ((nI_eq (a := (2 * bm + 2)) (b := 2147483647) (by omega) (by omega)).mpr h)
    refine lv_iload hx hb dJ0_newCapacity_51 (lv_at hl 0 rfl) ?_
    refine lv_aload_n hx hb dJ0_newCapacity_53 rfl (lv_at hl 4 rfl) ?_
    refine va_get (D := (dC, dI)) (ci := 15) (v := .int (nI 0)) (C := RJ1) (T := TJ1) (N := 4) hx hb hts in_J1 hown hK hP 0 rfl rfl 1 (by decide) (hts _ q270) (fun _ h9 => h9) rfl dJ0_newCapacity_54 ?_
    refine lv_ishr hx hb dJ0_newCapacity_57 ?_
    refine e_i (y := nI ((2 * bm + 2) / 2 ^ 0)) (n_shr (by omega) (by omega)) ?_
    refine e_i (y := nI (2 * bm + 2)) (n_eq (by simp)) ?_
    subst hQe
    exact W.iret (v := nI (2 * bm + 2)) hx hb hr (fun tz ht hW => ⟨_, rfl, rfl, ht⟩) hS.2.2 dJ0_newCapacity_58
  · have c_38 : (2 * bm + 2) = 2147483647 := (nI_eq (a := (2 * bm + 2)) (b := 2147483647) (by omega) (by omega)).mp c_38
    exfalso; omega
set_option maxHeartbeats 4000000 in
theorem j0_ensure {l : Launch} {dC : Nat → ClassId} {dI : Nat → Nat → Nat} {dA : Nat → ClassId} {s0 : State} {b0 : Addr} (Z : Z0 l dC dI dA s0 b0) (A : Nat → Prop) (sz : Nat) (hA : ∀ q : Nat, sz ≤ q → A q) {σ : Nat → Nat} {dS : va_G} (Y2 : S2 (dC, dI) dS dA σ s0) (sb bv bm n qq : Nat) (ml : Int32) (f : Nat → Int32) (hq2 : qq ≤ 2 * bm + 2) (h3 : bm ≤ 5000) (hf : sb_Fit f) : Met l yJ0_ensureCapacityInternal (ws_ yJ0_ensureCapacityInternal cJ0_ensureCapacityInternal 3 none) ({ frames := 5, cells := (cpN bm (qq) - bm), slots := (2 * (cpN bm (qq) - bm)), locals := 300 } : Room) (gP [.ref sb, .int (nI qq)] s0 A (fun H => H.size = sz ∧ va_P (dC, dI) vwCl [(sb, .inr (15, [.ref bv, .int (nI 0), .int ml, .int (nI n)])), (bv, .inl (dA 2, bm, .inl f))] H ∧ va_D A [(sb, .inr (15, [.ref bv, .int (nI 0), .int ml, .int (nI n)])), (bv, .inl (dA 2, bm, .inl f))])) (va_Qv (S := Nat × (Nat → Int32)) (fun u => (∀ j, j < bm → u.2 j = f j) ∧ sb_Fit u.2) (B1 (dC, dI) A (fun u => [(sb, .inr (15, [.ref u.1, .int (nI 0), .int ml, .int (nI n)])), (u.1, .inl (dA 2, (cpN bm qq), .inl u.2))]) (fun _ _ => True)) A) (cpN bm (qq) - bm) (2 * (cpN bm (qq) - bm)) A := by
  refine Met.ofW (cc := cJ0_ensureCapacityInternal) (maxL := 3) (ret := none) (by decide) rfl ?_
  intro p e s m args below meth c s₁ B hml hv
  obtain ⟨hav, hG, hsz, hP, hD⟩ := hv
  have hx := B.exec
  have hb := B.bytes
  have hr := B.returns
  have hts := atoms_spec (ws := (ws_ yJ0_ensureCapacityInternal cJ0_ensureCapacityInternal 3 none)) B.pre
  have hts : ∀ w ∈ lw_all, w.before _ s = true := fun w h => hts w (List.mem_cons_of_mem _ h)
  have hown : s.vm.findClass RJ0 = some m.cls := findClass_of_methodNamed B.named
  have hlocks := B.notSynchronized
  have hK := hG.K Z
  subst hsz
  have hS : va_S A s.heap s.heap [] := va_S.rf
  have hl := lv_entry ([.ref sb, .int (nI qq)]) (n := 3) (Nat.le_of_ble_eq_true rfl)
  rw [show entryFrame m args 3 = entryFrame m ([.ref sb, .int (nI qq)] : List Value).toArray 3 from by rw [hav], lg_entry_eq]
  generalize (lg_sl ([.ref sb, .int (nI qq)]) ++ List.replicate (3 - (lg_sl ([.ref sb, .int (nI qq)])).length) Slot.unset).toArray = ls at hl ⊢
  have hl : lv_has ls 3 [(0, .ref sb), (1, .int (nI qq))] := hl
  generalize hQe : MQ below _ _ s _ _ _ = Q
  change W p l e ({ frames := 5, cells := (cpN bm (qq) - bm), slots := (2 * (cpN bm (qq) - bm)), locals := 300 } : Room) s m args below meth c s.heap [] 0 0 Q (F0 m 0 ls [])
  refine lv_aload_n hx hb dJ0_ensureCapacityInternal_0 rfl (lv_at hl 0 rfl) ?_
  refine va_get (D := (dC, dI)) (ci := 15) (v := .ref bv) (C := RJ1) (T := TJ1) (N := 4) hx hb hts in_J1 hown hK hP 0 rfl rfl 0 (by decide) (hts _ q269) (fun _ h9 => h9) rfl dJ0_ensureCapacityInternal_1 ?_
  refine va_alen (v := nI bm) hx hb hK hP 1 2 rfl rfl rfl dJ0_ensureCapacityInternal_4 ?_
  refine lv_aload_n hx hb dJ0_ensureCapacityInternal_5 rfl (lv_at hl 0 rfl) ?_
  refine va_get (D := (dC, dI)) (ci := 15) (v := .int (nI 0)) (C := RJ1) (T := TJ1) (N := 4) hx hb hts in_J1 hown hK hP 0 rfl rfl 1 (by decide) (hts _ q270) (fun _ h9 => h9) rfl dJ0_ensureCapacityInternal_6 ?_
  refine lv_ishr hx hb dJ0_ensureCapacityInternal_9 ?_
  refine e_i (y := nI (bm / 2 ^ 0)) (n_shr (by omega) (by omega)) ?_
  refine e_i (y := nI bm) (n_eq (by simp)) ?_
  refine lv_istore_n (lv' := [(2, .int (nI bm)), (0, .ref sb), (1, .int (nI qq))]) hx hb dJ0_ensureCapacityInternal_10 rfl hl (by decide) rfl (fun ls hl => ?_)
  refine lv_iload_n hx hb dJ0_ensureCapacityInternal_11 rfl (lv_at hl 2 rfl) ?_
  refine lv_iload_n hx hb dJ0_ensureCapacityInternal_12 rfl (lv_at hl 0 rfl) ?_
  refine lv_isub hx hb dJ0_ensureCapacityInternal_13 ?_
  refine lv_if_le (tgt := 38) hx hb dJ0_ensureCapacityInternal_14 (by decide) (fun c_14 => ?_) (fun c_14 => ?_)
  · have hqm : qq ≤ bm := (sub_le0 (by omega) (by omega)).mp c_14
    subst hQe
    refine W.widen (k := (cpN bm (qq) - bm)) (n := (2 * (cpN bm (qq) - bm))) (by first | decide | omega) (by first | decide | omega) ?_
    exact W.vret hx hb hr (fun tz ht hW => ⟨⟨(bv, f), rfl, ⟨(fun _ _ => rfl), hf⟩, B1_at ht (by rw [cp_le hqm]; exact hP.sub [0, 1] rfl) (by rw [cp_le hqm]; exact hD.sub [0, 1] (by decide) rfl) trivial⟩, hS.F ht⟩) hS.2.2 dJ0_ensureCapacityInternal_38
  · have hqm : ¬ qq ≤ bm := fun z => c_14 ((sub_le0 (by omega) (by omega)).mpr z)
    have hcp := cp_one hqm hq2
    refine lv_aload_n hx hb dJ0_ensureCapacityInternal_17 rfl (lv_at hl 1 rfl) ?_
    refine lv_aload_n hx hb dJ0_ensureCapacityInternal_18 rfl (lv_at hl 1 rfl) ?_
    refine va_get (D := (dC, dI)) (ci := 15) (v := .ref bv) (C := RJ1) (T := TJ1) (N := 4) hx hb hts in_J1 hown hK hP 0 rfl rfl 0 (by decide) (hts _ q269) (fun _ h9 => h9) rfl dJ0_ensureCapacityInternal_19 ?_
    refine lv_aload_n hx hb dJ0_ensureCapacityInternal_22 rfl (lv_at hl 1 rfl) ?_
    refine lv_iload_n hx hb dJ0_ensureCapacityInternal_23 rfl (lv_at hl 2 rfl) ?_
    refine s_i (va_runV (As := [.int (nI qq)]) (rest := [.ref bv, .ref sb]) ⟨hx, hb, hml, hown, hts⟩ (j0_newCapacity Z Y2 sb bv bm n qq ml f (by omega) (by omega) (by omega)) ⟨cb_of 1 hts (lw_meth q1440) rfl rfl rfl (hts _ q1437) (hts _ q103) (by decide +kernel) ⟨Nat.le_of_ble_eq_true rfl, Nat.le_of_ble_eq_true rfl⟩, hts _ q1439, (selZ Z hG q1438 q1439 (by decide) rfl)⟩ (gP_V (va_recv hK hP (ci := 15) (q0 := 0) rfl rfl) hG hS (fun q _ h => h.elim) (hP.sub (ws' := [(sb, .inr (15, [.ref bv, .int (nI 0), .int ml, .int (nI n)])), (bv, .inl (dA 2, bm, .inl f))]) [0, 1] rfl)) rfl rfl hl.1 rfl (lv_room (Nat.le_of_ble_eq_true rfl)) dJ0_ensureCapacityInternal_24 ⟨by first | decide | omega | (show _ ≤ ((cpN bm (qq) - bm) : Nat); omega), by first | decide | omega | (show _ ≤ ((2 * (cpN bm (qq) - bm)) : Nat); omega)⟩) ?_
    refine lv_aload_n hx hb dJ0_ensureCapacityInternal_27 rfl (lv_at hl 1 rfl) ?_
    refine va_get (D := (dC, dI)) (ci := 15) (v := .int (nI 0)) (C := RJ1) (T := TJ1) (N := 4) hx hb hts in_J1 hown hK hP 0 rfl rfl 1 (by decide) (hts _ q270) (fun _ h9 => h9) rfl dJ0_ensureCapacityInternal_28 ?_
    refine lv_ishl hx hb dJ0_ensureCapacityInternal_31 ?_
    refine e_i (y := nI ((2 * bm + 2) * 2 ^ 0)) (n_sh0) ?_
    refine e_i (y := nI (2 * bm + 2)) (n_eq (by simp)) ?_
    have hF9 := va_free (wc := [(bv, .inl (dA 2, bm, .inl f))]) hD hS (fun q h => hA q h) [1] rfl
    refine c_r (wr := [(sb, .inr (15, [.ref bv, .int (nI 0), .int ml, .int (nI n)]))]) (va_runS (As := [.ref bv, .int (nI (2 * bm + 2))]) (rest := [.ref sb]) ⟨hx, hb, hml, hown, hts⟩ (j22_copyOf Z (va_A [(bv, .inl (dA 2, bm, .inl f))] s.heap.size) s.heap.size (fun q h => Or.inr h) Y2 bv bm (2 * bm + 2) f (by omega) (by omega) hf) (va_cwS 2 hts (lw_S q1450 q1451 q136 q1452) rfl rfl rfl (by decide +kernel) ⟨Nat.le_of_ble_eq_true rfl, Nat.le_of_ble_eq_true rfl⟩) (gP_S hG hS (fun q _ h => hF9 q h) ⟨rfl, (hP.sub (ws' := [(bv, .inl (dA 2, bm, .inl f))]) [1] rfl), (hD.sub (ws' := [(bv, .inl (dA 2, bm, .inl f))]) [1] (by decide) rfl).self⟩) rfl rfl hl.1 rfl (lv_room (Nat.le_of_ble_eq_true rfl)) dJ0_ensureCapacityInternal_32 ⟨by first | decide | omega | (show _ ≤ ((cpN bm (qq) - bm) : Nat); omega), by first | decide | omega | (show _ ≤ ((2 * (cpN bm (qq) - bm)) : Nat); omega)⟩) hP hD hS hA [1] [0] rfl rfl (by decide) (by decide) (fun u9 ra9 H locs hq hX hz hk hP hD hS => ?_)
    obtain ⟨ra_1, rfl⟩ : ∃ z, z = ra9 := ⟨_, rfl⟩
    obtain ⟨f9_1, hg_1⟩ : ∃ z, z = u9 := ⟨_, rfl⟩
    subst hg_1
    obtain ⟨hu1_1, hu2_1⟩ := hq
    have hP : va_P (dC, dI) vwCl [(sb, .inr (15, [.ref bv, .int (nI 0), .int ml, .int (nI n)])), (bv, .inl (dA 2, bm, .inl f)), (ra_1, .inl (dA 2, (2 * bm + 2), .inl f9_1))] H := hP
    have hD : va_D A [(sb, .inr (15, [.ref bv, .int (nI 0), .int ml, .int (nI n)])), (bv, .inl (dA 2, bm, .inl f)), (ra_1, .inl (dA 2, (2 * bm + 2), .inl f9_1))] := hD
    refine va_put (D := (dC, dI)) (ci := 15) (v := .ref ra_1) (ty := (tyJ1 0)) (C := RJ1) (T := TJ1) (N := 4) hx hb hts in_J1 tyJ1 tyJ1_ok nmJ1 hown hK hP hD hS 0 rfl rfl 0 (by decide) (hts _ q269) (fun _ h9 => h9) rfl (by decide +kernel) rfl rfl (Nat.le_of_ble_eq_true rfl) dJ0_ensureCapacityInternal_35 (fun H locs hP hD hS => ?_)
    have hP : va_P (dC, dI) vwCl [(sb, .inr (15, [.ref ra_1, .int (nI 0), .int ml, .int (nI n)])), (bv, .inl (dA 2, bm, .inl f)), (ra_1, .inl (dA 2, (2 * bm + 2), .inl f9_1))] H := hP
    have hD : va_D A [(sb, .inr (15, [.ref ra_1, .int (nI 0), .int ml, .int (nI n)])), (bv, .inl (dA 2, bm, .inl f)), (ra_1, .inl (dA 2, (2 * bm + 2), .inl f9_1))] := hD
    subst hQe
    refine W.widen (k := (cpN bm (qq) - bm)) (n := (2 * (cpN bm (qq) - bm))) (by first | decide | omega) (by first | decide | omega) ?_
    exact W.vret hx hb hr (fun tz ht hW => ⟨⟨(ra_1, f9_1), rfl, ⟨hu1_1, hu2_1⟩, B1_at ht (by rw [cp_one hqm hq2]; exact hP.sub [0, 2] rfl) (by rw [cp_one hqm hq2]; exact hD.sub [0, 2] (by decide) rfl) trivial⟩, hS.F ht⟩) hS.2.2 dJ0_ensureCapacityInternal_38
set_option maxHeartbeats 4000000 in
theorem j0_isLatin1 {l : Launch} {dC : Nat → ClassId} {dI : Nat → Nat → Nat} {dA : Nat → ClassId} {s0 : State} {b0 : Addr} (Z : Z0 l dC dI dA s0 b0) {σ : Nat → Nat} {dS : va_G} (Y2 : S2 (dC, dI) dS dA σ s0) (sb bv n : Nat) (ml : Int32) : Met l yJ0_isLatin1 (ws_ yJ0_isLatin1 cJ0_isLatin1 1 (some .boolean)) ({ frames := 1, cells := 0, slots := 0, locals := 60 } : Room) (gP [.ref sb] s0 (fun _ => False) (fun H => va_P (dC, dI) vwCl [(sb, .inr (15, [.ref bv, .int (nI 0), .int ml, .int (nI n)]))] H)) (vp_Si (fun r => r = nI 1)) 0 0 (fun _ => False) := by
  refine Met.ofW (cc := cJ0_isLatin1) (maxL := 1) (ret := (some .boolean)) (by decide) rfl ?_
  intro p e s m args below meth c s₁ B hml hv
  obtain ⟨hav, hG, hP⟩ := hv
  have hx := B.exec
  have hb := B.bytes
  have hr := B.returns
  have hts := atoms_spec (ws := (ws_ yJ0_isLatin1 cJ0_isLatin1 1 (some .boolean))) B.pre
  have hts : ∀ w ∈ lw_all, w.before _ s = true := fun w h => hts w (List.mem_cons_of_mem _ h)
  have hown : s.vm.findClass RJ0 = some m.cls := findClass_of_methodNamed B.named
  have hlocks := B.notSynchronized
  have hK := hG.K Z
  have hS : va_S (fun _ => False) s.heap s.heap [] := va_S.rf
  have hl := lv_entry ([.ref sb]) (n := 1) (Nat.le_of_ble_eq_true rfl)
  rw [show entryFrame m args 1 = entryFrame m ([.ref sb] : List Value).toArray 1 from by rw [hav], lg_entry_eq]
  generalize (lg_sl ([.ref sb]) ++ List.replicate (1 - (lg_sl ([.ref sb])).length) Slot.unset).toArray = ls at hl ⊢
  have hl : lv_has ls 1 [(0, .ref sb)] := hl
  generalize hQe : MQ below _ _ s _ _ _ = Q
  change W p l e ({ frames := 1, cells := 0, slots := 0, locals := 60 } : Room) s m args below meth c s.heap [] 0 0 Q (F0 m 0 ls [])
  refine va_gets (v := .int (nI 1)) hx hb (hG.Z Z Y2.1) hS hown (hts _ q260) (fun _ h9 => h9) dJ0_isLatin1_0 ?_
  refine lv_if_eq (tgt := 17) hx hb dJ0_isLatin1_3 (by decide) (fun c_3 => ?_) (fun c_3 => ?_)
  · exact absurd c_3 (by decide)
  refine lv_aload_n hx hb dJ0_isLatin1_6 rfl (lv_at hl 0 rfl) ?_
  refine va_get (D := (dC, dI)) (ci := 15) (v := .int (nI 0)) (C := RJ1) (T := TJ1) (N := 4) hx hb hts in_J1 hown hK hP 0 rfl rfl 1 (by decide) (hts _ q270) (fun _ h9 => h9) rfl dJ0_isLatin1_7 ?_
  refine lv_if_ne (tgt := 17) hx hb dJ0_isLatin1_10 (by decide) (fun c_10 => ?_) (fun c_10 => ?_)
  · exact absurd (by decide) c_10
  refine lv_iconst (v := nI 1) hx hb dJ0_isLatin1_13 (by decide) ?_
  refine lv_goto (tgt := 18) hx hb dJ0_isLatin1_14 (by decide) ?_
  subst hQe
  exact W.zret (v := nI 1) hx hb hr rfl (fun tz ht hW => ⟨_, rfl, rfl, ht⟩) hS.2.2 dJ0_isLatin1_18
set_option maxHeartbeats 4000000 in
theorem j15_canEncode {l : Launch} {dC : Nat → ClassId} {dI : Nat → Nat → Nat} {dA : Nat → ClassId} {s0 : State} {b0 : Addr} (Z : Z0 l dC dI dA s0 b0) {σ : Nat → Nat} {dS : va_G} (Y2 : S2 (dC, dI) dS dA σ s0) (ch : Nat) (h1 : ch < 256) : Met l yJ15_canEncode_2 (ws_ yJ15_canEncode_2 cJ15_canEncode_2 1 (some .boolean)) ({ frames := 1, cells := 0, slots := 0, locals := 60 } : Room) (gP [.int (nI ch)] s0 (fun _ => False) (fun H => True)) (vp_Si (fun r => r = nI 1)) 0 0 (fun _ => False) := by
  refine Met.ofW (cc := cJ15_canEncode_2) (maxL := 1) (ret := (some .boolean)) (by decide) rfl ?_
  intro p e s m args below meth c s₁ B hml hv
  obtain ⟨hav, hG, hno⟩ := hv
  have hx := B.exec
  have hb := B.bytes
  have hr := B.returns
  have hts := atoms_spec (ws := (ws_ yJ15_canEncode_2 cJ15_canEncode_2 1 (some .boolean))) B.pre
  have hts : ∀ w ∈ lw_all, w.before _ s = true := fun w h => hts w (List.mem_cons_of_mem _ h)
  have hown : s.vm.findClass RJ15 = some m.cls := findClass_of_methodNamed B.named
  have hlocks := B.notSynchronized
  have hK := hG.K Z
  have hS : va_S (fun _ => False) s.heap s.heap [] := va_S.rf
  have hP : va_P (dC, dI) vwCl [] s.heap := fun k q h => by simp at h
  have hD : va_D (fun _ => False) [] := ⟨fun i j p q h => by simp at h, fun k q h => by simp at h⟩
  have hl := lv_entry ([.int (nI ch)]) (n := 1) (Nat.le_of_ble_eq_true rfl)
  rw [show entryFrame m args 1 = entryFrame m ([.int (nI ch)] : List Value).toArray 1 from by rw [hav], lg_entry_eq]
  generalize (lg_sl ([.int (nI ch)]) ++ List.replicate (1 - (lg_sl ([.int (nI ch)])).length) Slot.unset).toArray = ls at hl ⊢
  have hl : lv_has ls 1 [(0, .int (nI ch))] := hl
  generalize hQe : MQ below _ _ s _ _ _ = Q
  change W p l e ({ frames := 1, cells := 0, slots := 0, locals := 60 } : Room) s m args below meth c s.heap [] 0 0 Q (F0 m 0 ls [])
  refine lv_iload_n hx hb dJ15_canEncode_2_0 rfl (lv_at hl 0 rfl) ?_
  refine lv_sipush (v := nI 255) hx hb dJ15_canEncode_2_1 (by decide) ?_
  refine lv_icmp_gt (tgt := 11) hx hb dJ15_canEncode_2_4 (by decide) (fun c_4 => ?_) (fun c_4 => ?_)
  · have c_4 : 255 < ch := (nI_ltI (a := 255) (b := ch) (by omega) (by omega)).mp c_4
    exfalso; omega
  · have c_4 : ¬ 255 < ch := fun h => c_4 ((nI_ltI (a := 255) (b := ch) (by omega) (by omega)).mpr h)
    refine lv_iconst (v := nI 1) hx hb dJ15_canEncode_2_7 (by decide) ?_
    refine lv_goto (tgt := 12) hx hb dJ15_canEncode_2_8 (by decide) ?_
    subst hQe
    exact W.zret (v := nI 1) hx hb hr rfl (fun tz ht hW => ⟨_, rfl, rfl, ht⟩) hS.2.2 dJ15_canEncode_2_12
set_option maxHeartbeats 4000000 in
theorem j0_appendC {l : Launch} {dC : Nat → ClassId} {dI : Nat → Nat → Nat} {dA : Nat → ClassId} {s0 : State} {b0 : Addr} (Z : Z0 l dC dI dA s0 b0) (A : Nat → Prop) (sz : Nat) (hA : ∀ q : Nat, sz ≤ q → A q) {σ : Nat → Nat} {dS : va_G} (Y2 : S2 (dC, dI) dS dA σ s0) (sb bv bm n : Nat) (ml : Int32) (f : Nat → Int32) (L : List Nat) (ch : Nat) (hn : L.length = n) (hO : OutH L f) (hf : sb_Fit f) (h2 : n ≤ bm) (h3 : bm ≤ 5000) (h4 : ch < 256) : Met l yJ0_append_3 (ws_ yJ0_append_3 cJ0_append_3 2 (some (.object "java/lang/AbstractStringBuilder"))) ({ frames := 6, cells := (cpN bm (n + 1) - bm), slots := (2 * (cpN bm (n + 1) - bm)), locals := 360 } : Room) (gP [.ref sb, .int (nI ch)] s0 A (fun H => H.size = sz ∧ va_P (dC, dI) vwCl [(sb, .inr (15, [.ref bv, .int (nI 0), .int ml, .int (nI n)])), (bv, .inl (dA 2, bm, .inl f))] H ∧ va_D A [(sb, .inr (15, [.ref bv, .int (nI 0), .int ml, .int (nI n)])), (bv, .inl (dA 2, bm, .inl f))])) (va_Qr (S := Nat × (Nat → Int32)) (fun u => OutH (L ++ [ch]) u.2 ∧ sb_Fit u.2) (B1r (dC, dI) A (fun u _ => [(sb, .inr (15, [.ref u.1, .int (nI 0), .int ml, .int (nI (n + 1))])), (u.1, .inl (dA 2, (cpN bm (n + 1)), .inl u.2))]) (fun _ q _ => q = sb)) A) (cpN bm (n + 1) - bm) (2 * (cpN bm (n + 1) - bm)) A := by
  refine Met.ofW (cc := cJ0_append_3) (maxL := 2) (ret := (some (.object "java/lang/AbstractStringBuilder"))) (by decide) rfl ?_
  intro p e s m args below meth c s₁ B hml hv
  obtain ⟨hav, hG, hsz, hP, hD⟩ := hv
  have hx := B.exec
  have hb := B.bytes
  have hr := B.returns
  have hts := atoms_spec (ws := (ws_ yJ0_append_3 cJ0_append_3 2 (some (.object "java/lang/AbstractStringBuilder")))) B.pre
  have hts : ∀ w ∈ lw_all, w.before _ s = true := fun w h => hts w (List.mem_cons_of_mem _ h)
  have hown : s.vm.findClass RJ0 = some m.cls := findClass_of_methodNamed B.named
  have hlocks := B.notSynchronized
  have hK := hG.K Z
  subst hsz
  have hS : va_S A s.heap s.heap [] := va_S.rf
  have hl := lv_entry ([.ref sb, .int (nI ch)]) (n := 2) (Nat.le_of_ble_eq_true rfl)
  rw [show entryFrame m args 2 = entryFrame m ([.ref sb, .int (nI ch)] : List Value).toArray 2 from by rw [hav], lg_entry_eq]
  generalize (lg_sl ([.ref sb, .int (nI ch)]) ++ List.replicate (2 - (lg_sl ([.ref sb, .int (nI ch)])).length) Slot.unset).toArray = ls at hl ⊢
  have hl : lv_has ls 2 [(0, .ref sb), (1, .int (nI ch))] := hl
  generalize hQe : MQ below _ _ s _ _ _ = Q
  change W p l e ({ frames := 6, cells := (cpN bm (n + 1) - bm), slots := (2 * (cpN bm (n + 1) - bm)), locals := 360 } : Room) s m args below meth c s.heap [] 0 0 Q (F0 m 0 ls [])
  have hc1 := cp_ge (m := bm) (N := n + 1)
  have hc2 := cp_bd (m := bm) (N := n + 1)
  have hc3 := cp_gem (m := bm) (N := n + 1)
  refine lv_aload_n hx hb dJ0_append_3_0 rfl (lv_at hl 0 rfl) ?_
  refine lv_aload_n hx hb dJ0_append_3_1 rfl (lv_at hl 0 rfl) ?_
  refine va_get (D := (dC, dI)) (ci := 15) (v := .int (nI n)) (C := RJ1) (T := TJ1) (N := 4) hx hb hts in_J1 hown hK hP 0 rfl rfl 3 (by decide) (hts _ q273) (fun _ h9 => h9) rfl dJ0_append_3_2 ?_
  refine lv_iconst (v := nI 1) hx hb dJ0_append_3_5 (by decide) ?_
  refine lv_iadd hx hb dJ0_append_3_6 ?_
  refine e_i (y := nI (n + 1)) (nI_add _ _) ?_
  have hF9 := va_free (wc := [(sb, .inr (15, [.ref bv, .int (nI 0), .int ml, .int (nI n)])), (bv, .inl (dA 2, bm, .inl f))]) hD hS (fun q h => hA q h) [0, 1] rfl
  refine c_v (wr := []) (va_runV (As := [.int (nI (n + 1))]) (rest := []) ⟨hx, hb, hml, hown, hts⟩ (j0_ensure Z (va_A [(sb, .inr (15, [.ref bv, .int (nI 0), .int ml, .int (nI n)])), (bv, .inl (dA 2, bm, .inl f))] s.heap.size) s.heap.size (fun q h => Or.inr h) Y2 sb bv bm n (n + 1) ml f (by omega) (by omega) hf) ⟨cb_of 1 hts (lw_meth q1436) rfl rfl rfl (hts _ q1433) (hts _ q103) (by decide +kernel) ⟨Nat.le_of_ble_eq_true rfl, Nat.le_of_ble_eq_true rfl⟩, hts _ q1435, (selZ Z hG q1434 q1435 (by decide) rfl)⟩ (gP_V (va_recv hK hP (ci := 15) (q0 := 0) rfl rfl) hG hS (fun q _ h => hF9 q h) ⟨rfl, (hP.sub (ws' := [(sb, .inr (15, [.ref bv, .int (nI 0), .int ml, .int (nI n)])), (bv, .inl (dA 2, bm, .inl f))]) [0, 1] rfl), (hD.sub (ws' := [(sb, .inr (15, [.ref bv, .int (nI 0), .int ml, .int (nI n)])), (bv, .inl (dA 2, bm, .inl f))]) [0, 1] (by decide) rfl).self⟩) rfl rfl hl.1 rfl (lv_room (Nat.le_of_ble_eq_true rfl)) dJ0_append_3_7 ⟨by first | decide | omega | (show _ ≤ ((cpN bm (n + 1) - bm) : Nat); omega), by first | decide | omega | (show _ ≤ ((2 * (cpN bm (n + 1) - bm)) : Nat); omega)⟩) hP hD hS hA [0, 1] [] rfl rfl (by decide) (by decide) (fun u9 H locs hq hX hz hk hP hD hS => ?_)
  obtain ⟨bv_0, f_0⟩ := u9
  obtain ⟨hu1_0, hu2_0⟩ := hq
  have hP : va_P (dC, dI) vwCl [(sb, .inr (15, [.ref bv_0, .int (nI 0), .int ml, .int (nI n)])), (bv_0, .inl (dA 2, (cpN bm (n + 1)), .inl f_0))] H := hP
  have hD : va_D A [(sb, .inr (15, [.ref bv_0, .int (nI 0), .int ml, .int (nI n)])), (bv_0, .inl (dA 2, (cpN bm (n + 1)), .inl f_0))] := hD
  refine lv_aload_n hx hb dJ0_append_3_10 rfl (lv_at hl 0 rfl) ?_
  refine s_i (va_runV (As := []) (rest := []) ⟨hx, hb, hml, hown, hts⟩ (j0_isLatin1 Z Y2 sb bv_0 n ml) ⟨cb_of 0 hts (lw_meth q1466) rfl rfl rfl (hts _ q1462) (hts _ q103) (by decide +kernel) ⟨Nat.le_of_ble_eq_true rfl, Nat.le_of_ble_eq_true rfl⟩, hts _ q1463, (hts _ q1465)⟩ (gP_V (va_recv hK hP (ci := 15) (q0 := 0) rfl rfl) hG hS (fun q _ h => h.elim) (hP.sub (ws' := [(sb, .inr (15, [.ref bv_0, .int (nI 0), .int ml, .int (nI n)]))]) [0] rfl)) rfl rfl hl.1 rfl (lv_room (Nat.le_of_ble_eq_true rfl)) dJ0_append_3_11 ⟨by first | decide | omega | (show _ ≤ ((cpN bm (n + 1) - bm) : Nat); omega), by first | decide | omega | (show _ ≤ ((2 * (cpN bm (n + 1) - bm)) : Nat); omega)⟩) ?_
  refine lv_if_eq (tgt := 45) hx hb dJ0_append_3_14 (by decide) (fun c_14 => ?_) (fun c_14 => ?_)
  · exact absurd c_14 (by decide)
  refine lv_iload_n hx hb dJ0_append_3_17 rfl (lv_at hl 1 rfl) ?_
  refine s_i (va_runS (As := [.int (nI ch)]) (rest := []) ⟨hx, hb, hml, hown, hts⟩ (j15_canEncode Z Y2 ch (by omega)) (va_cwS 1 hts (lw_S q1914 q1915 q124 q1916) rfl rfl rfl (by decide +kernel) ⟨Nat.le_of_ble_eq_true rfl, Nat.le_of_ble_eq_true rfl⟩) (gP_S hG hS (fun q _ h => h.elim) trivial) rfl rfl hl.1 rfl (lv_room (Nat.le_of_ble_eq_true rfl)) dJ0_append_3_18 ⟨by first | decide | omega | (show _ ≤ ((cpN bm (n + 1) - bm) : Nat); omega), by first | decide | omega | (show _ ≤ ((2 * (cpN bm (n + 1) - bm)) : Nat); omega)⟩) ?_
  refine lv_if_eq (tgt := 45) hx hb dJ0_append_3_21 (by decide) (fun c_21 => ?_) (fun c_21 => ?_)
  · exact absurd c_21 (by decide)
  refine lv_aload_n hx hb dJ0_append_3_24 rfl (lv_at hl 0 rfl) ?_
  refine va_get (D := (dC, dI)) (ci := 15) (v := .ref bv_0) (C := RJ1) (T := TJ1) (N := 4) hx hb hts in_J1 hown hK hP 0 rfl rfl 0 (by decide) (hts _ q269) (fun _ h9 => h9) rfl dJ0_append_3_25 ?_
  refine lv_aload_n hx hb dJ0_append_3_28 rfl (lv_at hl 0 rfl) ?_
  refine lv_dup hx hb dJ0_append_3_29 rfl ?_
  refine va_get (D := (dC, dI)) (ci := 15) (v := .int (nI n)) (C := RJ1) (T := TJ1) (N := 4) hx hb hts in_J1 hown hK hP 0 rfl rfl 3 (by decide) (hts _ q273) (fun _ h9 => h9) rfl dJ0_append_3_30 ?_
  refine lv_dup_x1 hx hb dJ0_append_3_33 rfl rfl ?_
  refine lv_iconst (v := nI 1) hx hb dJ0_append_3_34 (by decide) ?_
  refine lv_iadd hx hb dJ0_append_3_35 ?_
  refine e_i (y := nI (n + 1)) (nI_add _ _) ?_
  refine va_put (D := (dC, dI)) (ci := 15) (v := .int (nI (n + 1))) (ty := .int) (C := RJ1) (T := TJ1) (N := 4) hx hb hts in_J1 tyJ1 tyJ1_ok nmJ1 hown hK hP hD hS 0 rfl rfl 3 (by decide) (hts _ q273) (fun _ h9 => h9) rfl (by decide +kernel) rfl rfl (Nat.le_of_ble_eq_true rfl) dJ0_append_3_36 (fun H locs hP hD hS => ?_)
  have hP : va_P (dC, dI) vwCl [(sb, .inr (15, [.ref bv_0, .int (nI 0), .int ml, .int (nI (n + 1))])), (bv_0, .inl (dA 2, (cpN bm (n + 1)), .inl f_0))] H := hP
  have hD : va_D A [(sb, .inr (15, [.ref bv_0, .int (nI 0), .int ml, .int (nI (n + 1))])), (bv_0, .inl (dA 2, (cpN bm (n + 1)), .inl f_0))] := hD
  refine lv_iload_n hx hb dJ0_append_3_39 rfl (lv_at hl 1 rfl) ?_
  refine lv_i2b (v := (nI ch).toInt8.toInt32) hx hb dJ0_append_3_40 rfl ?_
  refine a_bast hx hb hK hP hD hS 1 2 rfl rfl (by omega) (by omega) dJ0_append_3_41 (fun H locs hP hD hS => ?_)
  have hP : va_P (dC, dI) vwCl [(sb, .inr (15, [.ref bv_0, .int (nI 0), .int ml, .int (nI (n + 1))])), (bv_0, .inl (dA 2, (cpN bm (n + 1)), .inl (upd f_0 n (vp_nar .byte ((nI ch).toInt8.toInt32)))))] H := hP
  have hD : va_D A [(sb, .inr (15, [.ref bv_0, .int (nI 0), .int ml, .int (nI (n + 1))])), (bv_0, .inl (dA 2, (cpN bm (n + 1)), .inl (upd f_0 n (vp_nar .byte ((nI ch).toInt8.toInt32)))))] := hD
  have e9 : (upd f_0 n (vp_nar .byte ((nI ch).toInt8.toInt32)) : Nat → Int32) = (upd f_0 n (sb_b ch)) := (by rw [pk_vb]; rfl)
  rw [e9] at hP hD; clear e9
  refine lv_goto (tgt := 75) hx hb dJ0_append_3_42 (by decide) ?_
  refine lv_aload_n hx hb dJ0_append_3_75 rfl (lv_at hl 0 rfl) ?_
  subst hQe
  refine W.widen (k := (cpN bm (n + 1) - bm)) (n := (2 * (cpN bm (n + 1) - bm))) (by first | decide | omega) (by first | decide | omega) ?_
  exact W.aret (v := .ref sb) hx hb hr (Or.inl ⟨_, rfl⟩) (Or.inr ⟨_, rfl⟩) (fun tz ht hW => ⟨⟨(bv_0, (upd f_0 n (sb_b ch))), sb, rfl, ⟨OutH.add (fun j hj => (hu1_0 j (by omega)).trans (hO j hj)) hn, sb_fitU hu2_0 (sb_fitB ch)⟩, B1r_at ht (hP.sub [0, 1] rfl) (hD.sub [0, 1] (by decide) rfl) rfl⟩, hS.F ht⟩) hS.2.2 dJ0_append_3_76
set_option maxHeartbeats 4000000 in
theorem j1_appendC {l : Launch} {dC : Nat → ClassId} {dI : Nat → Nat → Nat} {dA : Nat → ClassId} {s0 : State} {b0 : Addr} (Z : Z0 l dC dI dA s0 b0) (A : Nat → Prop) (sz : Nat) (hA : ∀ q : Nat, sz ≤ q → A q) {σ : Nat → Nat} {dS : va_G} (Y2 : S2 (dC, dI) dS dA σ s0) (sb bv bm n : Nat) (ml : Int32) (f : Nat → Int32) (L : List Nat) (ch : Nat) (hn : L.length = n) (hO : OutH L f) (hf : sb_Fit f) (h2 : n ≤ bm) (h3 : bm ≤ 5000) (h4 : ch < 256) : Met l yJ1_append_3 (ws_ yJ1_append_3 cJ1_append_3 2 (some (.object "java/lang/StringBuilder"))) ({ frames := 7, cells := (cpN bm (n + 1) - bm), slots := (2 * (cpN bm (n + 1) - bm)), locals := 420 } : Room) (gP [.ref sb, .int (nI ch)] s0 A (fun H => H.size = sz ∧ va_P (dC, dI) vwCl [(sb, .inr (15, [.ref bv, .int (nI 0), .int ml, .int (nI n)])), (bv, .inl (dA 2, bm, .inl f))] H ∧ va_D A [(sb, .inr (15, [.ref bv, .int (nI 0), .int ml, .int (nI n)])), (bv, .inl (dA 2, bm, .inl f))])) (va_Qr (S := Nat × (Nat → Int32)) (fun u => OutH (L ++ [ch]) u.2 ∧ sb_Fit u.2) (B1r (dC, dI) A (fun u _ => [(sb, .inr (15, [.ref u.1, .int (nI 0), .int ml, .int (nI (n + 1))])), (u.1, .inl (dA 2, (cpN bm (n + 1)), .inl u.2))]) (fun _ q _ => q = sb)) A) (cpN bm (n + 1) - bm) (2 * (cpN bm (n + 1) - bm)) A := by
  refine Met.ofW (cc := cJ1_append_3) (maxL := 2) (ret := (some (.object "java/lang/StringBuilder"))) (by decide) rfl ?_
  intro p e s m args below meth c s₁ B hml hv
  obtain ⟨hav, hG, hsz, hP, hD⟩ := hv
  have hx := B.exec
  have hb := B.bytes
  have hr := B.returns
  have hts := atoms_spec (ws := (ws_ yJ1_append_3 cJ1_append_3 2 (some (.object "java/lang/StringBuilder")))) B.pre
  have hts : ∀ w ∈ lw_all, w.before _ s = true := fun w h => hts w (List.mem_cons_of_mem _ h)
  have hown : s.vm.findClass RJ1 = some m.cls := findClass_of_methodNamed B.named
  have hlocks := B.notSynchronized
  have hK := hG.K Z
  subst hsz
  have hS : va_S A s.heap s.heap [] := va_S.rf
  have hl := lv_entry ([.ref sb, .int (nI ch)]) (n := 2) (Nat.le_of_ble_eq_true rfl)
  rw [show entryFrame m args 2 = entryFrame m ([.ref sb, .int (nI ch)] : List Value).toArray 2 from by rw [hav], lg_entry_eq]
  generalize (lg_sl ([.ref sb, .int (nI ch)]) ++ List.replicate (2 - (lg_sl ([.ref sb, .int (nI ch)])).length) Slot.unset).toArray = ls at hl ⊢
  have hl : lv_has ls 2 [(0, .ref sb), (1, .int (nI ch))] := hl
  generalize hQe : MQ below _ _ s _ _ _ = Q
  change W p l e ({ frames := 7, cells := (cpN bm (n + 1) - bm), slots := (2 * (cpN bm (n + 1) - bm)), locals := 420 } : Room) s m args below meth c s.heap [] 0 0 Q (F0 m 0 ls [])
  refine lv_aload_n hx hb dJ1_append_3_0 rfl (lv_at hl 0 rfl) ?_
  refine lv_iload_n hx hb dJ1_append_3_1 rfl (lv_at hl 1 rfl) ?_
  have hF9 := va_free (wc := [(sb, .inr (15, [.ref bv, .int (nI 0), .int ml, .int (nI n)])), (bv, .inl (dA 2, bm, .inl f))]) hD hS (fun q h => hA q h) [0, 1] rfl
  refine c_r (wr := []) (va_runSU (hK.1 15 _ rfl).2 (As := [.int (nI ch)]) (rest := []) ⟨hx, hb, hml, hown, hts⟩ (j0_appendC Z (va_A [(sb, .inr (15, [.ref bv, .int (nI 0), .int ml, .int (nI n)])), (bv, .inl (dA 2, bm, .inl f))] s.heap.size) s.heap.size (fun q h => Or.inr h) Y2 sb bv bm n ml f L ch hn hO hf  (by omega) (by omega) (by omega)) (va_cwSU 1 hts (lw_SU q1911 q2543 q282 q1912 q103 q1913) rfl rfl rfl (by decide +kernel) ⟨Nat.le_of_ble_eq_true rfl, Nat.le_of_ble_eq_true rfl⟩) (gP_V (va_recv hK hP (ci := 15) (q0 := 0) rfl rfl) hG hS (fun q _ h => hF9 q h) ⟨rfl, (hP.sub (ws' := [(sb, .inr (15, [.ref bv, .int (nI 0), .int ml, .int (nI n)])), (bv, .inl (dA 2, bm, .inl f))]) [0, 1] rfl), (hD.sub (ws' := [(sb, .inr (15, [.ref bv, .int (nI 0), .int ml, .int (nI n)])), (bv, .inl (dA 2, bm, .inl f))]) [0, 1] (by decide) rfl).self⟩) rfl rfl hl.1 rfl (lv_room (Nat.le_of_ble_eq_true rfl)) dJ1_append_3_2 ⟨by first | decide | omega | (show _ ≤ ((cpN bm (n + 1) - bm) : Nat); omega), by first | decide | omega | (show _ ≤ ((2 * (cpN bm (n + 1) - bm)) : Nat); omega)⟩) hP hD hS hA [0, 1] [] rfl rfl (by decide) (by decide) (fun u9 ra9 H locs hq hX hz hk hP hD hS => ?_)
  obtain ⟨ra_1, rfl⟩ : ∃ z, z = ra9 := ⟨_, rfl⟩
  obtain ⟨bv_1, f_1⟩ := u9
  obtain ⟨hO_1, hf_1⟩ := hq
  refine e_v (y := .ref sb) (congrArg Value.ref hX) ?_
  have hP : va_P (dC, dI) vwCl [(sb, .inr (15, [.ref bv_1, .int (nI 0), .int ml, .int (nI (n + 1))])), (bv_1, .inl (dA 2, (cpN bm (n + 1)), .inl f_1))] H := hP
  have hD : va_D A [(sb, .inr (15, [.ref bv_1, .int (nI 0), .int ml, .int (nI (n + 1))])), (bv_1, .inl (dA 2, (cpN bm (n + 1)), .inl f_1))] := hD
  refine lv_pop hx hb dJ1_append_3_5 rfl ?_
  refine lv_aload_n hx hb dJ1_append_3_6 rfl (lv_at hl 0 rfl) ?_
  subst hQe
  refine W.widen (k := (cpN bm (n + 1) - bm)) (n := (2 * (cpN bm (n + 1) - bm))) (by first | decide | omega) (by first | decide | omega) ?_
  exact W.aret (v := .ref sb) hx hb hr (Or.inl ⟨_, rfl⟩) (Or.inr ⟨_, rfl⟩) (fun tz ht hW => ⟨⟨(bv_1, f_1), sb, rfl, ⟨hO_1, hf_1⟩, B1r_at ht (hP.sub [0, 1] rfl) (hD.sub [0, 1] (by decide) rfl) rfl⟩, hS.F ht⟩) hS.2.2 dJ1_append_3_7
