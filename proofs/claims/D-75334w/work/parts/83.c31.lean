theorem int_ge {v : Nat} (h : v < 2 ^ 31) : ¬ nI v < -128 := by
  rw [Int32.lt_iff_toInt_lt, nI_toInt h, show (-128 : Int32).toInt = -128 by decide]
  omega
theorem ArrOfT.moved_ {u U : State} {cA : ClassId} {ty : FieldType} (hvm : u.vm.Alike U.vm) (h : ArrOfT u cA ty ∧ va_RA u cA ty) : ArrOfT U cA ty ∧ va_RA U cA ty := ⟨arrOfT_moved hvm h.1, h.2.moved hvm⟩
theorem a_aldX {p : Program} {l : Launch} {e : Env} {R : Room} {s : State} {m : MethodId} {args : Array Value} {below : List Frame} {meth : Method} {c : Code} {H : Heap} {locs : List Loc} {cells slots : Nat} {Q : State → Prop} {cc : ByteArray} {pc : Nat} {ls : Array Slot} {rest : List Value} {dC : Nat → ClassId} {dI : Nat → Nat → Nat} {ws : va_W} {a : Nat} (hexec : p.tables.exec = Jvm.exec) (hb : c.code = cc) {cA : ClassId} {C : String} (ht : ArrOfT s cA (.object C) ∧ va_RA s cA (.object C)) (hP : va_P (dC, dI) vwCl ws H) (q0 : Nat) {n k : Nat} {f : Nat → Option Nat} (ha : ws[q0]? = some (a, .inl (cA, n, .inr (.inr (.inr (.inr f)))))) (hk : k < n) (hn : n < 2 ^ 31) (hdg : decode cc pc = .ok (.aaload, 1)) (kk : W p l e R s m args below meth c H locs cells slots Q (F0 m (pc + 1) ls (va_rf (f k) :: rest))) : W p l e R s m args below meth c H locs cells slots Q (F0 m pc ls (.int (nI k) :: .ref a :: rest)) := by
  have hP0 : va_P (dC, dI) [] [(a, .inl (cA, n, .inr (.inr (.inr (.inr f)))))] H := by
    intro i q hq
    cases i with
    | zero => cases hq; exact hP q0 _ ha
    | succ i => cases hq
  exact va_aldq (D := (dC, dI)) (cl := []) (tys := [(cA, .object C)]) hexec hb ⟨fun i q hq => (by cases hq), fun i q hq => by
    cases i with
    | zero => cases hq; exact ht
    | succ i => simp at hq⟩ hP0 0 0 rfl rfl (vp_in_nI hk hn) hdg (by rw [nI_clamp (Nat.lt_trans hk hn)]; exact kk)
set_option maxHeartbeats 4000000 in
theorem j20_addH {l : Launch} {dC : Nat → ClassId} {dI : Nat → Nat → Nat} {dA : Nat → ClassId} {s0 : State} {b0 : Addr} (Z : Z0 l dC dI dA s0 b0) (A : Nat → Prop) (sz : Nat) (hA : ∀ q : Nat, sz ≤ q → A q) {σ : Nat → Nat} {dS : va_G} (Y2 : S2 (dC, dI) dS dA σ s0) (al ed bm : Nat) (md : Int32) (g : Nat → Nat) (c9 ev : Nat) (hc9 : c9 ≤ bm) (h2 : 2 ≤ bm) (h3 : bm ≤ 1500) (hnA : ∀ i, i < c9 → ¬ A (g i)) (hnE : ¬ A ev) : Met l yJ20_add_2 (ws_ yJ20_add_2 cJ20_add_2 4 none) ({ frames := 6, cells := (gcp c9 bm - bm), slots := (4 * (gcp c9 bm - bm)), locals := 360 } : Room) (gP [.ref al, .ref ev, .ref ed, .int (nI c9)] s0 A (fun H => H.size = sz ∧ va_P (dC, dI) vwCl [(al, .inr (13, [.int md, .ref ed, .int (nI c9)])), (ed, .inl (dA 8, bm, .inr (.inr (.inr (.inr (lsE g c9))))))] H ∧ va_D A [(al, .inr (13, [.int md, .ref ed, .int (nI c9)])), (ed, .inl (dA 8, bm, .inr (.inr (.inr (.inr (lsE g c9))))))] ∧ (∀ i, i < c9 → OBJ s0 H (g i)) ∧ OBJ s0 H ev)) (va_Qv (S := Nat) (fun _ => True) (B1 (dC, dI) A (fun u => [(al, .inr (13, [.int md, .ref u, .int (nI (c9 + 1))])), (u, .inl (dA 8, (gcp c9 bm), .inr (.inr (.inr (.inr (lsE (updN g c9 ev) (c9 + 1)))))))]) (fun _ _ => True)) A) (gcp c9 bm - bm) (4 * (gcp c9 bm - bm)) A := by
  refine Met.ofW (cc := cJ20_add_2) (maxL := 4) (ret := none) (by decide) rfl ?_
  intro p e s m args below meth c s₁ B hml hv
  obtain ⟨hav, hG, hsz, hP, hD, hOB, hOe⟩ := hv
  have hx := B.exec
  have hb := B.bytes
  have hr := B.returns
  have hts := atoms_spec (ws := (ws_ yJ20_add_2 cJ20_add_2 4 none)) B.pre
  have hts : ∀ w ∈ lw_all, w.before _ s = true := fun w h => hts w (List.mem_cons_of_mem _ h)
  have hown : s.vm.findClass RJ20 = some m.cls := findClass_of_methodNamed B.named
  have hlocks := B.notSynchronized
  have hK := hG.K Z
  subst hsz
  have hS : va_S A s.heap s.heap [] := va_S.rf
  have hl := lv_entry ([.ref al, .ref ev, .ref ed, .int (nI c9)]) (n := 4) (Nat.le_of_ble_eq_true rfl)
  rw [show entryFrame m args 4 = entryFrame m ([.ref al, .ref ev, .ref ed, .int (nI c9)] : List Value).toArray 4 from by rw [hav], lg_entry_eq]
  generalize (lg_sl ([.ref al, .ref ev, .ref ed, .int (nI c9)]) ++ List.replicate (4 - (lg_sl ([.ref al, .ref ev, .ref ed, .int (nI c9)])).length) Slot.unset).toArray = ls at hl ⊢
  have hl : lv_has ls 4 [(0, .ref al), (1, .ref ev), (2, .ref ed), (3, .int (nI c9))] := hl
  generalize hQe : MQ below _ _ s _ _ _ = Q
  change W p l e ({ frames := 6, cells := (gcp c9 bm - bm), slots := (4 * (gcp c9 bm - bm)), locals := 360 } : Room) s m args below meth c s.heap [] 0 0 Q (F0 m 0 ls [])
  refine lv_iload_n hx hb dJ20_add_2_0 rfl (lv_at hl 3 rfl) ?_
  refine lv_aload_n hx hb dJ20_add_2_1 rfl (lv_at hl 2 rfl) ?_
  refine va_alen (v := nI bm) hx hb hK hP 1 8 rfl rfl rfl dJ20_add_2_2 ?_
  refine lv_icmp_ne (tgt := 11) hx hb dJ20_add_2_3 (by decide) (fun c_3 => ?_) (fun c_3 => ?_)
  · have c_3 : ¬ c9 = bm := fun h => c_3 ((nI_eq (a := c9) (b := bm) (by omega) (by omega)).mpr h)
    have hg : gcp c9 bm = bm := if_neg c_3
    refine lv_aload_n hx hb dJ20_add_2_11 rfl (lv_at hl 2 rfl) ?_
    refine lv_iload_n hx hb dJ20_add_2_12 rfl (lv_at hl 3 rfl) ?_
    refine lv_aload_n hx hb dJ20_add_2_13 rfl (lv_at hl 1 rfl) ?_
    refine a_astM hx hb hK hP hD hS 1 8 rfl rfl ((hOe.to (hS.2.1 _ hOe.lt hnE)).any Z hG) (by omega) (by omega) dJ20_add_2_14 (fun H locs hP hD hS => ?_)
    have hP : va_P (dC, dI) vwCl [(al, .inr (13, [.int md, .ref ed, .int (nI c9)])), (ed, .inl (dA 8, bm, .inr (.inr (.inr (.inr (va_up (lsE g c9) c9 (some ev)))))))] H := hP
    have hD : va_D A [(al, .inr (13, [.int md, .ref ed, .int (nI c9)])), (ed, .inl (dA 8, bm, .inr (.inr (.inr (.inr (va_up (lsE g c9) c9 (some ev)))))))] := hD
    have e9 : (va_up (lsE g c9) c9 (some ev) : Nat → Option Nat) = (lsE (updN g c9 ev) (c9 + 1)) := lsE_s
    rw [e9] at hP hD; clear e9
    refine lv_aload_n hx hb dJ20_add_2_15 rfl (lv_at hl 0 rfl) ?_
    refine lv_iload_n hx hb dJ20_add_2_16 rfl (lv_at hl 3 rfl) ?_
    refine lv_iconst (v := nI 1) hx hb dJ20_add_2_17 (by decide) ?_
    refine lv_iadd hx hb dJ20_add_2_18 ?_
    refine e_i (y := nI (c9 + 1)) (nI_add _ _) ?_
    refine va_put (D := (dC, dI)) (ci := 13) (v := .int (nI (c9 + 1))) (ty := .int) (C := RJ20) (T := TJ20) (N := 3) hx hb hts in_J20 tyJ20 tyJ20_ok nmJ20 hown hK hP hD hS 0 rfl rfl 2 (by decide) (hts _ q1597) (fun _ h9 => h9) rfl (by decide +kernel) rfl rfl (Nat.le_of_ble_eq_true rfl) dJ20_add_2_19 (fun H locs hP hD hS => ?_)
    have hP : va_P (dC, dI) vwCl [(al, .inr (13, [.int md, .ref ed, .int (nI (c9 + 1))])), (ed, .inl (dA 8, bm, .inr (.inr (.inr (.inr (lsE (updN g c9 ev) (c9 + 1)))))))] H := hP
    have hD : va_D A [(al, .inr (13, [.int md, .ref ed, .int (nI (c9 + 1))])), (ed, .inl (dA 8, bm, .inr (.inr (.inr (.inr (lsE (updN g c9 ev) (c9 + 1)))))))] := hD
    subst hQe
    refine W.widen (k := (gcp c9 bm - bm)) (n := (4 * (gcp c9 bm - bm))) (by first | decide | omega) (by first | decide | omega) ?_
    exact W.vret hx hb hr (fun tz ht hW => ⟨⟨ed, rfl, trivial, B1_at ht (by rw [hg]; exact hP.sub [0, 1] rfl) (by rw [hg]; exact hD.sub [0, 1] (by decide) rfl) trivial⟩, hS.F ht⟩) hS.2.2 dJ20_add_2_22
  · have c_3 : c9 = bm := (nI_eq (a := c9) (b := bm) (by omega) (by omega)).mp c_3
    have hg : gcp c9 bm = bm + bm / 2 := if_pos c_3
    have hcm : c9 = bm := c_3
    refine lv_aload_n hx hb dJ20_add_2_6 rfl (lv_at hl 0 rfl) ?_
    have hF9 := va_free (wc := [(al, .inr (13, [.int md, .ref ed, .int (nI c9)])), (ed, .inl (dA 8, bm, .inr (.inr (.inr (.inr (lsE g c9))))))]) hD hS (fun q h => hA q h) [0, 1] rfl
    refine c_r (wr := []) (va_runV (As := []) (rest := []) ⟨hx, hb, hml, hown, hts⟩ (j20_grow0 Z (va_A [(al, .inr (13, [.int md, .ref ed, .int (nI c9)])), (ed, .inl (dA 8, bm, .inr (.inr (.inr (.inr (lsE g c9))))))] s.heap.size) s.heap.size (fun q h => Or.inr h) Y2 al ed bm md g c9 hcm (by omega) (by omega) (fun i hi h => hnA i hi (hF9 _ h))) (cwV 0 hts (lw_V q1634 q1636 qs29 q134 q1637) rfl rfl rfl (by decide +kernel) ⟨Nat.le_of_ble_eq_true rfl, Nat.le_of_ble_eq_true rfl⟩) (gP_V (va_recv hK hP (ci := 13) (q0 := 0) rfl rfl) hG hS (fun q _ h => hF9 q h) ⟨rfl, (hP.sub (ws' := [(al, .inr (13, [.int md, .ref ed, .int (nI c9)])), (ed, .inl (dA 8, bm, .inr (.inr (.inr (.inr (lsE g c9))))))]) [0, 1] rfl), (hD.sub (ws' := [(al, .inr (13, [.int md, .ref ed, .int (nI c9)])), (ed, .inl (dA 8, bm, .inr (.inr (.inr (.inr (lsE g c9))))))]) [0, 1] (by decide) rfl).self, (fun i hi => (hOB i hi).to (hS.2.1 _ (hOB i hi).lt (hnA i hi)))⟩) rfl rfl hl.1 rfl (lv_room (Nat.le_of_ble_eq_true rfl)) dJ20_add_2_7 ⟨by first | decide | omega | (show _ ≤ ((gcp c9 bm - bm) : Nat); omega), by first | decide | omega | (show _ ≤ ((4 * (gcp c9 bm - bm)) : Nat); omega)⟩) hP hD hS hA [0, 1] [] rfl rfl (by decide) (by decide) (fun u9 ra9 H locs hq hX hz hk hP hD hS => ?_)
    obtain ⟨ra_1, rfl⟩ : ∃ z, z = ra9 := ⟨_, rfl⟩
    have hP : va_P (dC, dI) vwCl [(al, .inr (13, [.int md, .ref ra_1, .int (nI c9)])), (ra_1, .inl (dA 8, (bm + bm / 2), .inr (.inr (.inr (.inr (lsE g c9))))))] H := hP
    have hD : va_D A [(al, .inr (13, [.int md, .ref ra_1, .int (nI c9)])), (ra_1, .inl (dA 8, (bm + bm / 2), .inr (.inr (.inr (.inr (lsE g c9))))))] := hD
    refine lv_astore_n (lv' := [(2, .ref ra_1), (0, .ref al), (1, .ref ev), (3, .int (nI c9))]) hx hb dJ20_add_2_10 rfl hl (by decide) rfl (fun ls hl => ?_)
    refine lv_aload_n hx hb dJ20_add_2_11 rfl (lv_at hl 0 rfl) ?_
    refine lv_iload_n hx hb dJ20_add_2_12 rfl (lv_at hl 3 rfl) ?_
    refine lv_aload_n hx hb dJ20_add_2_13 rfl (lv_at hl 2 rfl) ?_
    refine a_astM hx hb hK hP hD hS 1 8 rfl rfl ((hOe.to (hS.2.1 _ hOe.lt hnE)).any Z hG) (by omega) (by omega) dJ20_add_2_14 (fun H locs hP hD hS => ?_)
    have hP : va_P (dC, dI) vwCl [(al, .inr (13, [.int md, .ref ra_1, .int (nI c9)])), (ra_1, .inl (dA 8, (bm + bm / 2), .inr (.inr (.inr (.inr (va_up (lsE g c9) c9 (some ev)))))))] H := hP
    have hD : va_D A [(al, .inr (13, [.int md, .ref ra_1, .int (nI c9)])), (ra_1, .inl (dA 8, (bm + bm / 2), .inr (.inr (.inr (.inr (va_up (lsE g c9) c9 (some ev)))))))] := hD
    have e9 : (va_up (lsE g c9) c9 (some ev) : Nat → Option Nat) = (lsE (updN g c9 ev) (c9 + 1)) := lsE_s
    rw [e9] at hP hD; clear e9
    refine lv_aload_n hx hb dJ20_add_2_15 rfl (lv_at hl 1 rfl) ?_
    refine lv_iload_n hx hb dJ20_add_2_16 rfl (lv_at hl 3 rfl) ?_
    refine lv_iconst (v := nI 1) hx hb dJ20_add_2_17 (by decide) ?_
    refine lv_iadd hx hb dJ20_add_2_18 ?_
    refine e_i (y := nI (c9 + 1)) (nI_add _ _) ?_
    refine va_put (D := (dC, dI)) (ci := 13) (v := .int (nI (c9 + 1))) (ty := .int) (C := RJ20) (T := TJ20) (N := 3) hx hb hts in_J20 tyJ20 tyJ20_ok nmJ20 hown hK hP hD hS 0 rfl rfl 2 (by decide) (hts _ q1597) (fun _ h9 => h9) rfl (by decide +kernel) rfl rfl (Nat.le_of_ble_eq_true rfl) dJ20_add_2_19 (fun H locs hP hD hS => ?_)
    have hP : va_P (dC, dI) vwCl [(al, .inr (13, [.int md, .ref ra_1, .int (nI (c9 + 1))])), (ra_1, .inl (dA 8, (bm + bm / 2), .inr (.inr (.inr (.inr (lsE (updN g c9 ev) (c9 + 1)))))))] H := hP
    have hD : va_D A [(al, .inr (13, [.int md, .ref ra_1, .int (nI (c9 + 1))])), (ra_1, .inl (dA 8, (bm + bm / 2), .inr (.inr (.inr (.inr (lsE (updN g c9 ev) (c9 + 1)))))))] := hD
    subst hQe
    refine W.widen (k := (gcp c9 bm - bm)) (n := (4 * (gcp c9 bm - bm))) (by first | decide | omega) (by first | decide | omega) ?_
    exact W.vret hx hb hr (fun tz ht hW => ⟨⟨ra_1, rfl, trivial, B1_at ht (by rw [hg]; exact hP.sub [0, 1] rfl) (by rw [hg]; exact hD.sub [0, 1] (by decide) rfl) trivial⟩, hS.F ht⟩) hS.2.2 dJ20_add_2_22
set_option maxHeartbeats 4000000 in
theorem j20_add {l : Launch} {dC : Nat → ClassId} {dI : Nat → Nat → Nat} {dA : Nat → ClassId} {s0 : State} {b0 : Addr} (Z : Z0 l dC dI dA s0 b0) (A : Nat → Prop) (sz : Nat) (hA : ∀ q : Nat, sz ≤ q → A q) {σ : Nat → Nat} {dS : va_G} (Y2 : S2 (dC, dI) dS dA σ s0) (al ed bm : Nat) (md : Int32) (g : Nat → Nat) (c9 ev : Nat) (hc9 : c9 ≤ bm) (h2 : 2 ≤ bm) (h3 : bm ≤ 1500) (hnA : ∀ i, i < c9 → ¬ A (g i)) (hnE : ¬ A ev) : Met l yJ20_add (ws_ yJ20_add cJ20_add 2 (some .boolean)) ({ frames := 7, cells := (gcp c9 bm - bm), slots := (4 * (gcp c9 bm - bm)), locals := 420 } : Room) (gP [.ref al, .ref ev] s0 A (fun H => H.size = sz ∧ va_P (dC, dI) vwCl [(al, .inr (13, [.int md, .ref ed, .int (nI c9)])), (ed, .inl (dA 8, bm, .inr (.inr (.inr (.inr (lsE g c9))))))] H ∧ va_D A [(al, .inr (13, [.int md, .ref ed, .int (nI c9)])), (ed, .inl (dA 8, bm, .inr (.inr (.inr (.inr (lsE g c9))))))] ∧ (∀ i, i < c9 → OBJ s0 H (g i)) ∧ OBJ s0 H ev)) (va_Qi (S := Nat) (fun _ _ => True) (B1 (dC, dI) A (fun u => [(al, .inr (13, [.int (md + nI 1), .ref u, .int (nI (c9 + 1))])), (u, .inl (dA 8, (gcp c9 bm), .inr (.inr (.inr (.inr (lsE (updN g c9 ev) (c9 + 1)))))))]) (fun _ _ => True)) A) (gcp c9 bm - bm) (4 * (gcp c9 bm - bm)) A := by
  refine Met.ofW (cc := cJ20_add) (maxL := 2) (ret := (some .boolean)) (by decide) rfl ?_
  intro p e s m args below meth c s₁ B hml hv
  obtain ⟨hav, hG, hsz, hP, hD, hOB, hOe⟩ := hv
  have hx := B.exec
  have hb := B.bytes
  have hr := B.returns
  have hts := atoms_spec (ws := (ws_ yJ20_add cJ20_add 2 (some .boolean))) B.pre
  have hts : ∀ w ∈ lw_all, w.before _ s = true := fun w h => hts w (List.mem_cons_of_mem _ h)
  have hown : s.vm.findClass RJ20 = some m.cls := findClass_of_methodNamed B.named
  have hlocks := B.notSynchronized
  have hK := hG.K Z
  subst hsz
  have hS : va_S A s.heap s.heap [] := va_S.rf
  have hl := lv_entry ([.ref al, .ref ev]) (n := 2) (Nat.le_of_ble_eq_true rfl)
  rw [show entryFrame m args 2 = entryFrame m ([.ref al, .ref ev] : List Value).toArray 2 from by rw [hav], lg_entry_eq]
  generalize (lg_sl ([.ref al, .ref ev]) ++ List.replicate (2 - (lg_sl ([.ref al, .ref ev])).length) Slot.unset).toArray = ls at hl ⊢
  have hl : lv_has ls 2 [(0, .ref al), (1, .ref ev)] := hl
  generalize hQe : MQ below _ _ s _ _ _ = Q
  change W p l e ({ frames := 7, cells := (gcp c9 bm - bm), slots := (4 * (gcp c9 bm - bm)), locals := 420 } : Room) s m args below meth c s.heap [] 0 0 Q (F0 m 0 ls [])
  refine lv_aload_n hx hb dJ20_add_0 rfl (lv_at hl 0 rfl) ?_
  refine lv_dup hx hb dJ20_add_1 rfl ?_
  refine va_get (D := (dC, dI)) (ci := 13) (v := .int md) (C := RJ20) (T := TJ20) (N := 3) hx hb hts in_J20 hown hK hP 0 rfl rfl 0 (by decide) (hts _ q1601) (fun x9 h9 => u_same (hts _ q1600) x9 h9) rfl dJ20_add_2 ?_
  refine lv_iconst (v := nI 1) hx hb dJ20_add_5 (by decide) ?_
  refine lv_iadd hx hb dJ20_add_6 ?_
  refine va_put (D := (dC, dI)) (ci := 13) (v := .int (md + (nI 1))) (ty := .int) (C := RJ20) (T := TJ20) (N := 3) hx hb hts in_J20 tyJ20 tyJ20_ok nmJ20 hown hK hP hD hS 0 rfl rfl 0 (by decide) (hts _ q1601) (fun x9 h9 => u_same (hts _ q1600) x9 h9) rfl (by decide +kernel) rfl rfl (Nat.le_of_ble_eq_true rfl) dJ20_add_7 (fun H locs hP hD hS => ?_)
  have hP : va_P (dC, dI) vwCl [(al, .inr (13, [.int (md + (nI 1)), .ref ed, .int (nI c9)])), (ed, .inl (dA 8, bm, .inr (.inr (.inr (.inr (lsE g c9))))))] H := hP
  have hD : va_D A [(al, .inr (13, [.int (md + (nI 1)), .ref ed, .int (nI c9)])), (ed, .inl (dA 8, bm, .inr (.inr (.inr (.inr (lsE g c9))))))] := hD
  refine lv_aload_n hx hb dJ20_add_10 rfl (lv_at hl 0 rfl) ?_
  refine lv_aload_n hx hb dJ20_add_11 rfl (lv_at hl 1 rfl) ?_
  refine lv_aload_n hx hb dJ20_add_12 rfl (lv_at hl 0 rfl) ?_
  refine va_get (D := (dC, dI)) (ci := 13) (v := .ref ed) (C := RJ20) (T := TJ20) (N := 3) hx hb hts in_J20 hown hK hP 0 rfl rfl 1 (by decide) (hts _ q1594) (fun _ h9 => h9) rfl dJ20_add_13 ?_
  refine lv_aload_n hx hb dJ20_add_16 rfl (lv_at hl 0 rfl) ?_
  refine va_get (D := (dC, dI)) (ci := 13) (v := .int (nI c9)) (C := RJ20) (T := TJ20) (N := 3) hx hb hts in_J20 hown hK hP 0 rfl rfl 2 (by decide) (hts _ q1597) (fun _ h9 => h9) rfl dJ20_add_17 ?_
  have hF9 := va_free (wc := [(al, .inr (13, [.int (md + (nI 1)), .ref ed, .int (nI c9)])), (ed, .inl (dA 8, bm, .inr (.inr (.inr (.inr (lsE g c9))))))]) hD hS (fun q h => hA q h) [0, 1] rfl
  refine c_v (wr := []) (va_runV (As := [.ref ev, .ref ed, .int (nI c9)]) (rest := []) ⟨hx, hb, hml, hown, hts⟩ (j20_addH Z (va_A [(al, .inr (13, [.int (md + (nI 1)), .ref ed, .int (nI c9)])), (ed, .inl (dA 8, bm, .inr (.inr (.inr (.inr (lsE g c9))))))] H.size) H.size (fun q h => Or.inr h) Y2 al ed bm (md + (nI 1)) g c9 ev hc9 h2 h3 (fun i hi h => hnA i hi (hF9 _ h)) (fun h => hnE (hF9 _ h))) (cwV 3 hts (lw_V q1630 q1632 qs28 q134 q1633) rfl rfl rfl (by decide +kernel) ⟨Nat.le_of_ble_eq_true rfl, Nat.le_of_ble_eq_true rfl⟩) (gP_V (va_recv hK hP (ci := 13) (q0 := 0) rfl rfl) hG hS (fun q _ h => hF9 q h) ⟨rfl, (hP.sub (ws' := [(al, .inr (13, [.int (md + (nI 1)), .ref ed, .int (nI c9)])), (ed, .inl (dA 8, bm, .inr (.inr (.inr (.inr (lsE g c9))))))]) [0, 1] rfl), (hD.sub (ws' := [(al, .inr (13, [.int (md + (nI 1)), .ref ed, .int (nI c9)])), (ed, .inl (dA 8, bm, .inr (.inr (.inr (.inr (lsE g c9))))))]) [0, 1] (by decide) rfl).self, (fun i hi => (hOB i hi).to (hS.2.1 _ (hOB i hi).lt (hnA i hi))), (hOe.to (hS.2.1 _ hOe.lt hnE))⟩) rfl rfl hl.1 rfl (lv_room (Nat.le_of_ble_eq_true rfl)) dJ20_add_20 ⟨by first | decide | omega | (show _ ≤ ((gcp c9 bm - bm) : Nat); omega), by first | decide | omega | (show _ ≤ ((4 * (gcp c9 bm - bm)) : Nat); omega)⟩) hP hD hS hA [0, 1] [] rfl rfl (by decide) (by decide) (fun u9 H locs hq hX hz hk hP hD hS => ?_)
  obtain ⟨ed_0, rfl⟩ : ∃ z, z = u9 := ⟨_, rfl⟩
  have hP : va_P (dC, dI) vwCl [(al, .inr (13, [.int (md + (nI 1)), .ref ed_0, .int (nI (c9 + 1))])), (ed_0, .inl (dA 8, (gcp c9 bm), .inr (.inr (.inr (.inr (lsE (updN g c9 ev) (c9 + 1)))))))] H := hP
  have hD : va_D A [(al, .inr (13, [.int (md + (nI 1)), .ref ed_0, .int (nI (c9 + 1))])), (ed_0, .inl (dA 8, (gcp c9 bm), .inr (.inr (.inr (.inr (lsE (updN g c9 ev) (c9 + 1)))))))] := hD
  refine lv_iconst (v := nI 1) hx hb dJ20_add_23 (by decide) ?_
  subst hQe
  refine W.widen (k := (gcp c9 bm - bm)) (n := (4 * (gcp c9 bm - bm))) (by first | decide | omega) (by first | decide | omega) ?_
  exact W.zret (v := nI 1) hx hb hr rfl (fun tz ht hW => ⟨⟨_, ed_0, rfl, trivial, B1_at ht (hP.sub [0, 1] rfl) (hD.sub [0, 1] (by decide) rfl) trivial⟩, hS.F ht⟩) hS.2.2 dJ20_add_24
set_option maxHeartbeats 4000000 in
theorem j20_size {l : Launch} {dC : Nat → ClassId} {dI : Nat → Nat → Nat} {dA : Nat → ClassId} {s0 : State} {b0 : Addr} (Z : Z0 l dC dI dA s0 b0) {σ : Nat → Nat} {dS : va_G} (Y2 : S2 (dC, dI) dS dA σ s0) (al ed : Nat) (md : Int32) (c9 : Nat) : Met l yJ20_size (ws_ yJ20_size cJ20_size 1 (some .int)) ({ frames := 1, cells := 0, slots := 0, locals := 60 } : Room) (gP [.ref al] s0 (fun _ => False) (fun H => va_P (dC, dI) vwCl [(al, .inr (13, [.int md, .ref ed, .int (nI c9)]))] H)) (vp_Si (fun r => r = nI c9)) 0 0 (fun _ => False) := by
  refine Met.ofW (cc := cJ20_size) (maxL := 1) (ret := (some .int)) (by decide) rfl ?_
  intro p e s m args below meth c s₁ B hml hv
  obtain ⟨hav, hG, hP⟩ := hv
  have hx := B.exec
  have hb := B.bytes
  have hr := B.returns
  have hts := atoms_spec (ws := (ws_ yJ20_size cJ20_size 1 (some .int))) B.pre
  have hts : ∀ w ∈ lw_all, w.before _ s = true := fun w h => hts w (List.mem_cons_of_mem _ h)
  have hown : s.vm.findClass RJ20 = some m.cls := findClass_of_methodNamed B.named
  have hlocks := B.notSynchronized
  have hK := hG.K Z
  have hS : va_S (fun _ => False) s.heap s.heap [] := va_S.rf
  have hl := lv_entry ([.ref al]) (n := 1) (Nat.le_of_ble_eq_true rfl)
  rw [show entryFrame m args 1 = entryFrame m ([.ref al] : List Value).toArray 1 from by rw [hav], lg_entry_eq]
  generalize (lg_sl ([.ref al]) ++ List.replicate (1 - (lg_sl ([.ref al])).length) Slot.unset).toArray = ls at hl ⊢
  have hl : lv_has ls 1 [(0, .ref al)] := hl
  generalize hQe : MQ below _ _ s _ _ _ = Q
  change W p l e ({ frames := 1, cells := 0, slots := 0, locals := 60 } : Room) s m args below meth c s.heap [] 0 0 Q (F0 m 0 ls [])
  refine lv_aload_n hx hb dJ20_size_0 rfl (lv_at hl 0 rfl) ?_
  refine va_get (D := (dC, dI)) (ci := 13) (v := .int (nI c9)) (C := RJ20) (T := TJ20) (N := 3) hx hb hts in_J20 hown hK hP 0 rfl rfl 2 (by decide) (hts _ q1597) (fun _ h9 => h9) rfl dJ20_size_1 ?_
  subst hQe
  exact W.iret (v := nI c9) hx hb hr (fun tz ht hW => ⟨_, rfl, rfl, ht⟩) hS.2.2 dJ20_size_4
set_option maxHeartbeats 4000000 in
theorem j16_checkIndexN {l : Launch} {dC : Nat → ClassId} {dI : Nat → Nat → Nat} {dA : Nat → ClassId} {s0 : State} {b0 : Addr} (Z : Z0 l dC dI dA s0 b0) {σ : Nat → Nat} {dS : va_G} (Y2 : S2 (dC, dI) dS dA σ s0) (ci cn : Nat) (h1 : ci < cn) (h2 : cn < 2 ^ 31) : Met l yJ16_checkIndex (ws_ yJ16_checkIndex cJ16_checkIndex 3 (some .int)) ({ frames := 1, cells := 0, slots := 0, locals := 60 } : Room) (gP [.int (nI ci), .int (nI cn), .null] s0 (fun _ => False) (fun H => True)) (vp_Si (fun r => r = nI ci)) 0 0 (fun _ => False) := by
  refine Met.ofW (cc := cJ16_checkIndex) (maxL := 3) (ret := (some .int)) (by decide) rfl ?_
  intro p e s m args below meth c s₁ B hml hv
  obtain ⟨hav, hG, hno⟩ := hv
  have hx := B.exec
  have hb := B.bytes
  have hr := B.returns
  have hts := atoms_spec (ws := (ws_ yJ16_checkIndex cJ16_checkIndex 3 (some .int))) B.pre
  have hts : ∀ w ∈ lw_all, w.before _ s = true := fun w h => hts w (List.mem_cons_of_mem _ h)
  have hown : s.vm.findClass RJ16 = some m.cls := findClass_of_methodNamed B.named
  have hlocks := B.notSynchronized
  have hK := hG.K Z
  have hS : va_S (fun _ => False) s.heap s.heap [] := va_S.rf
  have hP : va_P (dC, dI) vwCl [] s.heap := fun k q h => by simp at h
  have hD : va_D (fun _ => False) [] := ⟨fun i j p q h => by simp at h, fun k q h => by simp at h⟩
  have hl := lv_entry ([.int (nI ci), .int (nI cn), .null]) (n := 3) (Nat.le_of_ble_eq_true rfl)
  rw [show entryFrame m args 3 = entryFrame m ([.int (nI ci), .int (nI cn), .null] : List Value).toArray 3 from by rw [hav], lg_entry_eq]
  generalize (lg_sl ([.int (nI ci), .int (nI cn), .null]) ++ List.replicate (3 - (lg_sl ([.int (nI ci), .int (nI cn), .null])).length) Slot.unset).toArray = ls at hl ⊢
  have hl : lv_has ls 3 [(0, .int (nI ci)), (1, .int (nI cn)), (2, .null)] := hl
  generalize hQe : MQ below _ _ s _ _ _ = Q
  change W p l e ({ frames := 1, cells := 0, slots := 0, locals := 60 } : Room) s m args below meth c s.heap [] 0 0 Q (F0 m 0 ls [])
  refine lv_iload_n hx hb dJ16_checkIndex_0 rfl (lv_at hl 0 rfl) ?_
  refine lv_if_lt (tgt := 9) hx hb dJ16_checkIndex_1 (by decide) (fun c_1 => ?_) (fun c_1 => ?_)
  · have c_1 : ci < 0 := (nI_ltI (a := ci) (b := 0) (by omega) (by omega)).mp c_1
    exfalso; omega
  · have c_1 : ¬ ci < 0 := fun h => c_1 ((nI_ltI (a := ci) (b := 0) (by omega) (by omega)).mpr h)
    refine lv_iload_n hx hb dJ16_checkIndex_4 rfl (lv_at hl 0 rfl) ?_
    refine lv_iload_n hx hb dJ16_checkIndex_5 rfl (lv_at hl 1 rfl) ?_
    refine lv_icmp_lt (tgt := 16) hx hb dJ16_checkIndex_6 (by decide) (fun c_6 => ?_) (fun c_6 => ?_)
    · have c_6 : ci < cn := (nI_ltI (a := ci) (b := cn) (by omega) (by omega)).mp c_6
      refine lv_iload_n hx hb dJ16_checkIndex_16 rfl (lv_at hl 0 rfl) ?_
      subst hQe
      exact W.iret (v := nI ci) hx hb hr (fun tz ht hW => ⟨_, rfl, rfl, ht⟩) hS.2.2 dJ16_checkIndex_17
    · have c_6 : ¬ ci < cn := fun h => c_6 ((nI_ltI (a := ci) (b := cn) (by omega) (by omega)).mpr h)
      exfalso; omega
set_option maxHeartbeats 4000000 in
theorem j26_checkIndex {l : Launch} {dC : Nat → ClassId} {dI : Nat → Nat → Nat} {dA : Nat → ClassId} {s0 : State} {b0 : Addr} (Z : Z0 l dC dI dA s0 b0) {σ : Nat → Nat} {dS : va_G} (Y2 : S2 (dC, dI) dS dA σ s0) (ci cn : Nat) (h1 : ci < cn) (h2 : cn < 2 ^ 31) : Met l yJ26_checkIndex (ws_ yJ26_checkIndex cJ26_checkIndex 2 (some .int)) ({ frames := 2, cells := 0, slots := 0, locals := 120 } : Room) (gP [.int (nI ci), .int (nI cn)] s0 (fun _ => False) (fun H => True)) (vp_Si (fun r => r = nI ci)) 0 0 (fun _ => False) := by
  refine Met.ofW (cc := cJ26_checkIndex) (maxL := 2) (ret := (some .int)) (by decide) rfl ?_
  intro p e s m args below meth c s₁ B hml hv
  obtain ⟨hav, hG, hno⟩ := hv
  have hx := B.exec
  have hb := B.bytes
  have hr := B.returns
  have hts := atoms_spec (ws := (ws_ yJ26_checkIndex cJ26_checkIndex 2 (some .int))) B.pre
  have hts : ∀ w ∈ lw_all, w.before _ s = true := fun w h => hts w (List.mem_cons_of_mem _ h)
  have hown : s.vm.findClass RJ26 = some m.cls := findClass_of_methodNamed B.named
  have hlocks := B.notSynchronized
  have hK := hG.K Z
  have hS : va_S (fun _ => False) s.heap s.heap [] := va_S.rf
  have hP : va_P (dC, dI) vwCl [] s.heap := fun k q h => by simp at h
  have hD : va_D (fun _ => False) [] := ⟨fun i j p q h => by simp at h, fun k q h => by simp at h⟩
  have hl := lv_entry ([.int (nI ci), .int (nI cn)]) (n := 2) (Nat.le_of_ble_eq_true rfl)
  rw [show entryFrame m args 2 = entryFrame m ([.int (nI ci), .int (nI cn)] : List Value).toArray 2 from by rw [hav], lg_entry_eq]
  generalize (lg_sl ([.int (nI ci), .int (nI cn)]) ++ List.replicate (2 - (lg_sl ([.int (nI ci), .int (nI cn)])).length) Slot.unset).toArray = ls at hl ⊢
  have hl : lv_has ls 2 [(0, .int (nI ci)), (1, .int (nI cn))] := hl
  generalize hQe : MQ below _ _ s _ _ _ = Q
  change W p l e ({ frames := 2, cells := 0, slots := 0, locals := 120 } : Room) s m args below meth c s.heap [] 0 0 Q (F0 m 0 ls [])
  refine lv_iload_n hx hb dJ26_checkIndex_0 rfl (lv_at hl 0 rfl) ?_
  refine lv_iload_n hx hb dJ26_checkIndex_1 rfl (lv_at hl 1 rfl) ?_
  refine lv_null hx hb dJ26_checkIndex_2 ?_
  refine s_i (va_runS (As := [.int (nI ci), .int (nI cn), .null]) (rest := []) ⟨hx, hb, hml, hown, hts⟩ (j16_checkIndexN Z Y2 ci cn (by omega) (by omega)) (va_cwS 3 hts (lw_S q1815 q1816 q125 q1817) rfl rfl rfl (by decide +kernel) ⟨Nat.le_of_ble_eq_true rfl, Nat.le_of_ble_eq_true rfl⟩) (gP_S hG hS (fun q _ h => h.elim) trivial) rfl rfl hl.1 rfl (lv_room (Nat.le_of_ble_eq_true rfl)) dJ26_checkIndex_3 ⟨by first | decide | omega | (show _ ≤ (0 : Nat); omega), by first | decide | omega | (show _ ≤ (0 : Nat); omega)⟩) ?_
  subst hQe
  exact W.iret (v := nI ci) hx hb hr (fun tz ht hW => ⟨_, rfl, rfl, ht⟩) hS.2.2 dJ26_checkIndex_6
set_option maxHeartbeats 4000000 in
theorem j20_elementData {l : Launch} {dC : Nat → ClassId} {dI : Nat → Nat → Nat} {dA : Nat → ClassId} {s0 : State} {b0 : Addr} (Z : Z0 l dC dI dA s0 b0) (A : Nat → Prop) (sz : Nat) (hA : ∀ q : Nat, sz ≤ q → A q) {σ : Nat → Nat} {dS : va_G} (Y2 : S2 (dC, dI) dS dA σ s0) (al ed bm : Nat) (md : Int32) (g : Nat → Nat) (c9 ic : Nat) (hi9 : ic < c9) (hc9 : c9 ≤ bm) (h3 : bm ≤ 3000) : Met l yJ20_elementData (ws_ yJ20_elementData cJ20_elementData 2 (some (.object "java/lang/Object"))) ({ frames := 1, cells := 0, slots := 0, locals := 60 } : Room) (gP [.ref al, .int (nI ic)] s0 A (fun H => H.size = sz ∧ RO A (dC, dI) [(al, .inr (13, [.int md, .ref ed, .int (nI c9)])), (ed, .inl (dA 8, bm, .inr (.inr (.inr (.inr (lsE g c9))))))] H)) (va_Qr (S := Unit) (fun _ => True) (B1r (dC, dI) A (fun _ _ => []) (fun _ q _ => q = g ic)) A) 0 0 A := by
  refine Met.ofW (cc := cJ20_elementData) (maxL := 2) (ret := (some (.object "java/lang/Object"))) (by decide) rfl ?_
  intro p e s m args below meth c s₁ B hml hv
  obtain ⟨hav, hG, hsz, hR0⟩ := hv
  have hx := B.exec
  have hb := B.bytes
  have hr := B.returns
  have hts := atoms_spec (ws := (ws_ yJ20_elementData cJ20_elementData 2 (some (.object "java/lang/Object")))) B.pre
  have hts : ∀ w ∈ lw_all, w.before _ s = true := fun w h => hts w (List.mem_cons_of_mem _ h)
  have hown : s.vm.findClass RJ20 = some m.cls := findClass_of_methodNamed B.named
  have hlocks := B.notSynchronized
  have hK := hG.K Z
  subst hsz
  have hS : va_S A s.heap s.heap [] := va_S.rf
  have hP : va_P (dC, dI) vwCl [] s.heap := fun k q h => by simp at h
  have hD : va_D A [] := ⟨fun i j p q h => by simp at h, fun k q h => by simp at h⟩
  have hl := lv_entry ([.ref al, .int (nI ic)]) (n := 2) (Nat.le_of_ble_eq_true rfl)
  rw [show entryFrame m args 2 = entryFrame m ([.ref al, .int (nI ic)] : List Value).toArray 2 from by rw [hav], lg_entry_eq]
  generalize (lg_sl ([.ref al, .int (nI ic)]) ++ List.replicate (2 - (lg_sl ([.ref al, .int (nI ic)])).length) Slot.unset).toArray = ls at hl ⊢
  have hl : lv_has ls 2 [(0, .ref al), (1, .int (nI ic))] := hl
  generalize hQe : MQ below _ _ s _ _ _ = Q
  change W p l e ({ frames := 1, cells := 0, slots := 0, locals := 60 } : Room) s m args below meth c s.heap [] 0 0 Q (F0 m 0 ls [])
  refine lv_aload_n hx hb dJ20_elementData_0 rfl (lv_at hl 0 rfl) ?_
  refine va_get (D := (dC, dI)) (ci := 13) (v := .ref ed) (C := RJ20) (T := TJ20) (N := 3) hx hb hts in_J20 hown hK (hR0.up hS) 0 rfl rfl 1 (by decide) (hts _ q1594) (fun _ h9 => h9) rfl dJ20_elementData_1 ?_
  refine lv_iload_n hx hb dJ20_elementData_4 rfl (lv_at hl 1 rfl) ?_
  refine a_aldq hx hb hK (hR0.up hS) 1 8 rfl rfl (by omega) (by omega) dJ20_elementData_5 ?_
  refine e_v (y := .ref (g ic)) (congrArg va_rf (lsE_at hi9)) ?_
  subst hQe
  exact W.aret (v := .ref (g ic)) hx hb hr (Or.inl ⟨_, rfl⟩) (Or.inr ⟨_, rfl⟩) (fun tz ht hW => ⟨⟨(), g ic, rfl, trivial, B1r_at ht (hP.sub [] rfl) (hD.sub [] (by decide) rfl) rfl⟩, hS.F ht⟩) hS.2.2 dJ20_elementData_6
set_option maxHeartbeats 4000000 in
theorem j20_get {l : Launch} {dC : Nat → ClassId} {dI : Nat → Nat → Nat} {dA : Nat → ClassId} {s0 : State} {b0 : Addr} (Z : Z0 l dC dI dA s0 b0) (A : Nat → Prop) (sz : Nat) (hA : ∀ q : Nat, sz ≤ q → A q) {σ : Nat → Nat} {dS : va_G} (Y2 : S2 (dC, dI) dS dA σ s0) (al ed bm : Nat) (md : Int32) (g : Nat → Nat) (c9 ic : Nat) (hi9 : ic < c9) (hc9 : c9 ≤ bm) (h3 : bm ≤ 3000) : Met l yJ20_get (ws_ yJ20_get cJ20_get 2 (some (.object "java/lang/Object"))) ({ frames := 3, cells := 0, slots := 0, locals := 180 } : Room) (gP [.ref al, .int (nI ic)] s0 A (fun H => H.size = sz ∧ RO A (dC, dI) [(al, .inr (13, [.int md, .ref ed, .int (nI c9)])), (ed, .inl (dA 8, bm, .inr (.inr (.inr (.inr (lsE g c9))))))] H)) (va_Qr (S := Unit) (fun _ => True) (B1r (dC, dI) A (fun _ _ => []) (fun _ q _ => q = g ic)) A) 0 0 A := by
  refine Met.ofW (cc := cJ20_get) (maxL := 2) (ret := (some (.object "java/lang/Object"))) (by decide) rfl ?_
  intro p e s m args below meth c s₁ B hml hv
  obtain ⟨hav, hG, hsz, hR0⟩ := hv
  have hx := B.exec
  have hb := B.bytes
  have hr := B.returns
  have hts := atoms_spec (ws := (ws_ yJ20_get cJ20_get 2 (some (.object "java/lang/Object")))) B.pre
  have hts : ∀ w ∈ lw_all, w.before _ s = true := fun w h => hts w (List.mem_cons_of_mem _ h)
  have hown : s.vm.findClass RJ20 = some m.cls := findClass_of_methodNamed B.named
  have hlocks := B.notSynchronized
  have hK := hG.K Z
  subst hsz
  have hS : va_S A s.heap s.heap [] := va_S.rf
  have hP : va_P (dC, dI) vwCl [] s.heap := fun k q h => by simp at h
  have hD : va_D A [] := ⟨fun i j p q h => by simp at h, fun k q h => by simp at h⟩
  have hl := lv_entry ([.ref al, .int (nI ic)]) (n := 2) (Nat.le_of_ble_eq_true rfl)
  rw [show entryFrame m args 2 = entryFrame m ([.ref al, .int (nI ic)] : List Value).toArray 2 from by rw [hav], lg_entry_eq]
  generalize (lg_sl ([.ref al, .int (nI ic)]) ++ List.replicate (2 - (lg_sl ([.ref al, .int (nI ic)])).length) Slot.unset).toArray = ls at hl ⊢
  have hl : lv_has ls 2 [(0, .ref al), (1, .int (nI ic))] := hl
  generalize hQe : MQ below _ _ s _ _ _ = Q
  change W p l e ({ frames := 3, cells := 0, slots := 0, locals := 180 } : Room) s m args below meth c s.heap [] 0 0 Q (F0 m 0 ls [])
  refine lv_iload_n hx hb dJ20_get_0 rfl (lv_at hl 1 rfl) ?_
  refine lv_aload_n hx hb dJ20_get_1 rfl (lv_at hl 0 rfl) ?_
  refine va_get (D := (dC, dI)) (ci := 13) (v := .int (nI c9)) (C := RJ20) (T := TJ20) (N := 3) hx hb hts in_J20 hown hK (hR0.up hS) 0 rfl rfl 2 (by decide) (hts _ q1597) (fun _ h9 => h9) rfl dJ20_get_2 ?_
  refine s_i (va_runS (As := [.int (nI ic), .int (nI c9)]) (rest := []) ⟨hx, hb, hml, hown, hts⟩ (j26_checkIndex Z Y2 ic c9 (by omega) (by omega)) (va_cwS 2 hts (lw_S q1812 q1813 q142 q1814) rfl rfl rfl (by decide +kernel) ⟨Nat.le_of_ble_eq_true rfl, Nat.le_of_ble_eq_true rfl⟩) (gP_S hG hS (fun q _ h => h.elim) trivial) rfl rfl hl.1 rfl (lv_room (Nat.le_of_ble_eq_true rfl)) dJ20_get_5 ⟨by first | decide | omega | (show _ ≤ (0 : Nat); omega), by first | decide | omega | (show _ ≤ (0 : Nat); omega)⟩) ?_
  refine lv_pop hx hb dJ20_get_8 rfl ?_
  refine lv_aload_n hx hb dJ20_get_9 rfl (lv_at hl 0 rfl) ?_
  refine lv_iload_n hx hb dJ20_get_10 rfl (lv_at hl 1 rfl) ?_
  have hF9 := va_free (wc := []) hD hS (fun q h => hA q h) [] rfl
  refine c_r (wr := []) (va_runV (As := [.int (nI ic)]) (rest := []) ⟨hx, hb, hml, hown, hts⟩ (j20_elementData Z (va_A [] s.heap.size) s.heap.size (fun q h => Or.inr h) Y2 al ed bm md g c9 ic (by omega) (by omega) (by omega)) (cwV 1 hts (lw_V q1818 q1819 q1820 q134 q1821) rfl rfl rfl (by decide +kernel) ⟨Nat.le_of_ble_eq_true rfl, Nat.le_of_ble_eq_true rfl⟩) (gP_V (va_recv hK (hR0.up hS) (ci := 13) (q0 := 0) rfl rfl) hG hS (fun q _ h => hF9 q h) ⟨rfl, (hR0.to hS (fun q _ h => hF9 q h))⟩) rfl rfl hl.1 rfl (lv_room (Nat.le_of_ble_eq_true rfl)) dJ20_get_11 ⟨by first | decide | omega | (show _ ≤ (0 : Nat); omega), by first | decide | omega | (show _ ≤ (0 : Nat); omega)⟩) hP hD hS hA [] [] rfl rfl (by decide) (by decide) (fun u9 ra9 H locs hq hX hz hk hP hD hS => ?_)
  obtain ⟨ra_1, rfl⟩ : ∃ z, z = ra9 := ⟨_, rfl⟩
  refine e_v (y := .ref (g ic)) (congrArg Value.ref hX) ?_
  have hP : va_P (dC, dI) vwCl [] H := hP
  have hD : va_D A [] := hD
  subst hQe
  exact W.aret (v := .ref (g ic)) hx hb hr (Or.inl ⟨_, rfl⟩) (Or.inr ⟨_, rfl⟩) (fun tz ht hW => ⟨⟨(), g ic, rfl, trivial, B1r_at ht (hP.sub [] rfl) (hD.sub [] (by decide) rfl) rfl⟩, hS.F ht⟩) hS.2.2 dJ20_get_14
set_option maxHeartbeats 4000000 in
theorem j25_init {l : Launch} {dC : Nat → ClassId} {dI : Nat → Nat → Nat} {dA : Nat → ClassId} {s0 : State} {b0 : Addr} (Z : Z0 l dC dI dA s0 b0) (A : Nat → Prop) (sz : Nat) (hA : ∀ q : Nat, sz ≤ q → A q) {σ : Nat → Nat} {dS : va_G} (Y2 : S2 (dC, dI) dS dA σ s0) (it al ed : Nat) (md : Int32) (c9 : Nat) : Met l yJ25_init (ws_ yJ25_init cJ25_init 2 none) ({ frames := 2, cells := 0, slots := 0, locals := 120 } : Room) (gP [.ref it, .ref al] s0 A (fun H => H.size = sz ∧ va_P (dC, dI) vwCl [(it, .inr (14, [.int 0, .int 0, .int 0, .null]))] H ∧ va_D A [(it, .inr (14, [.int 0, .int 0, .int 0, .null]))] ∧ RO A (dC, dI) [(al, .inr (13, [.int md, .ref ed, .int (nI c9)]))] H)) (va_Qv (S := Unit) (fun _ => True) (B1 (dC, dI) A (fun _ => [(it, .inr (14, [.int 0, .int (-1), .int md, .ref al]))]) (fun _ _ => True)) A) 0 0 A := by
  refine Met.ofW (cc := cJ25_init) (maxL := 2) (ret := none) (by decide) rfl ?_
  intro p e s m args below meth c s₁ B hml hv
  obtain ⟨hav, hG, hsz, hP, hD, hR0⟩ := hv
  have hx := B.exec
  have hb := B.bytes
  have hr := B.returns
  have hts := atoms_spec (ws := (ws_ yJ25_init cJ25_init 2 none)) B.pre
  have hts : ∀ w ∈ lw_all, w.before _ s = true := fun w h => hts w (List.mem_cons_of_mem _ h)
  have hown : s.vm.findClass RJ25 = some m.cls := findClass_of_methodNamed B.named
  have hlocks := B.notSynchronized
  have hK := hG.K Z
  have hin : meth.name = "<init>" := (name_of_methodNamed B.named B.method).1
  subst hsz
  have hS : va_S A s.heap s.heap [] := va_S.rf
  have hl := lv_entry ([.ref it, .ref al]) (n := 2) (Nat.le_of_ble_eq_true rfl)
  rw [show entryFrame m args 2 = entryFrame m ([.ref it, .ref al] : List Value).toArray 2 from by rw [hav], lg_entry_eq]
  generalize (lg_sl ([.ref it, .ref al]) ++ List.replicate (2 - (lg_sl ([.ref it, .ref al])).length) Slot.unset).toArray = ls at hl ⊢
  have hl : lv_has ls 2 [(0, .ref it), (1, .ref al)] := hl
  generalize hQe : MQ below _ _ s _ _ _ = Q
  change W p l e ({ frames := 2, cells := 0, slots := 0, locals := 120 } : Room) s m args below meth c s.heap [] 0 0 Q (F0 m 0 ls [])
  refine lv_aload_n hx hb dJ25_init_0 rfl (lv_at hl 0 rfl) ?_
  refine lv_aload_n hx hb dJ25_init_1 rfl (lv_at hl 1 rfl) ?_
  refine va_putF (D := (dC, dI)) (ci := 14) (v := .ref al) (ty := (tyJ25 3)) (C := RJ25) (T := TJ25) (N := 4) hx hb hts in_J25 tyJ25 tyJ25_ok nmJ25 hown hK hP hD hS 0 rfl rfl 3 (by decide) (hts _ q1787) (fun _ h9 => h9) rfl hin rfl (by decide +kernel) rfl rfl (Nat.le_of_ble_eq_true rfl) dJ25_init_2 (fun H locs hP hD hS => ?_)
  have hP : va_P (dC, dI) vwCl [(it, .inr (14, [.int 0, .int 0, .int 0, .ref al]))] H := hP
  have hD : va_D A [(it, .inr (14, [.int 0, .int 0, .int 0, .ref al]))] := hD
  refine lv_aload_n hx hb dJ25_init_5 rfl (lv_at hl 0 rfl) ?_
  refine W.objInit hx hb hown (hts _ q1783) (hts _ q151) (hts _ q152) rfl (by rw [hml]; exact hl.1) rfl dJ25_init_6 (Nat.le_of_ble_eq_true rfl) (Nat.le_of_ble_eq_true rfl) ?_
  show W p l e ({ frames := 2, cells := 0, slots := 0, locals := 120 } : Room) s m args below meth c H locs 0 0 Q (F0 m 9 ls [])
  refine lv_aload_n hx hb dJ25_init_9 rfl (lv_at hl 0 rfl) ?_
  refine lv_iconst (v := (-1)) hx hb dJ25_init_10 (by decide) ?_
  refine va_put (D := (dC, dI)) (ci := 14) (v := .int (-1)) (ty := .int) (C := RJ25) (T := TJ25) (N := 4) hx hb hts in_J25 tyJ25 tyJ25_ok nmJ25 hown hK hP hD hS 0 rfl rfl 1 (by decide) (hts _ q1785) (fun _ h9 => h9) rfl (by decide +kernel) rfl rfl (Nat.le_of_ble_eq_true rfl) dJ25_init_11 (fun H locs hP hD hS => ?_)
  have hP : va_P (dC, dI) vwCl [(it, .inr (14, [.int 0, .int (-1), .int 0, .ref al]))] H := hP
  have hD : va_D A [(it, .inr (14, [.int 0, .int (-1), .int 0, .ref al]))] := hD
  refine lv_aload_n hx hb dJ25_init_14 rfl (lv_at hl 0 rfl) ?_
  refine lv_aload_n hx hb dJ25_init_15 rfl (lv_at hl 0 rfl) ?_
  refine va_get (D := (dC, dI)) (ci := 14) (v := .ref al) (C := RJ25) (T := TJ25) (N := 4) hx hb hts in_J25 hown hK hP 0 rfl rfl 3 (by decide) (hts _ q1787) (fun _ h9 => h9) rfl dJ25_init_16 ?_
  refine va_get (D := (dC, dI)) (ci := 13) (v := .int md) (C := RJ20) (T := TJ20) (N := 3) hx hb hts in_J20 hown hK (hR0.up hS) 0 rfl rfl 0 (by decide) (hts _ q1599) (fun x9 h9 => u_same (hts _ q1600) x9 h9) rfl dJ25_init_19 ?_
  refine va_put (D := (dC, dI)) (ci := 14) (v := .int md) (ty := .int) (C := RJ25) (T := TJ25) (N := 4) hx hb hts in_J25 tyJ25 tyJ25_ok nmJ25 hown hK hP hD hS 0 rfl rfl 2 (by decide) (hts _ q1786) (fun _ h9 => h9) rfl (by decide +kernel) rfl rfl (Nat.le_of_ble_eq_true rfl) dJ25_init_22 (fun H locs hP hD hS => ?_)
  have hP : va_P (dC, dI) vwCl [(it, .inr (14, [.int 0, .int (-1), .int md, .ref al]))] H := hP
  have hD : va_D A [(it, .inr (14, [.int 0, .int (-1), .int md, .ref al]))] := hD
  subst hQe
  exact W.vret hx hb hr (fun tz ht hW => ⟨⟨(), rfl, trivial, B1_at ht (hP.sub [0] rfl) (hD.sub [0] (by decide) rfl) trivial⟩, hS.F ht⟩) hS.2.2 dJ25_init_25
set_option maxHeartbeats 4000000 in
theorem j20_iterator {l : Launch} {dC : Nat → ClassId} {dI : Nat → Nat → Nat} {dA : Nat → ClassId} {s0 : State} {b0 : Addr} (Z : Z0 l dC dI dA s0 b0) (A : Nat → Prop) (sz : Nat) (hA : ∀ q : Nat, sz ≤ q → A q) {σ : Nat → Nat} {dS : va_G} (Y2 : S2 (dC, dI) dS dA σ s0) (al ed : Nat) (md : Int32) (c9 : Nat) : Met l yJ20_iterator (ws_ yJ20_iterator cJ20_iterator 1 (some (.object "java/util/Iterator"))) ({ frames := 3, cells := 1, slots := 4, locals := 180 } : Room) (gP [.ref al] s0 A (fun H => H.size = sz ∧ RO A (dC, dI) [(al, .inr (13, [.int md, .ref ed, .int (nI c9)]))] H)) (va_Qr (S := Unit) (fun _ => True) (B1r (dC, dI) A (fun _ q => [(q, .inr (14, [.int 0, .int (-1), .int md, .ref al]))]) (fun _ _ _ => True)) A) 1 4 A := by
  refine Met.ofW (cc := cJ20_iterator) (maxL := 1) (ret := (some (.object "java/util/Iterator"))) (by decide) rfl ?_
  intro p e s m args below meth c s₁ B hml hv
  obtain ⟨hav, hG, hsz, hR0⟩ := hv
  have hx := B.exec
  have hb := B.bytes
  have hr := B.returns
  have hts := atoms_spec (ws := (ws_ yJ20_iterator cJ20_iterator 1 (some (.object "java/util/Iterator")))) B.pre
  have hts : ∀ w ∈ lw_all, w.before _ s = true := fun w h => hts w (List.mem_cons_of_mem _ h)
  have hown : s.vm.findClass RJ20 = some m.cls := findClass_of_methodNamed B.named
  have hlocks := B.notSynchronized
  have hK := hG.K Z
  subst hsz
  have hS : va_S A s.heap s.heap [] := va_S.rf
  have hP : va_P (dC, dI) vwCl [] s.heap := fun k q h => by simp at h
  have hD : va_D A [] := ⟨fun i j p q h => by simp at h, fun k q h => by simp at h⟩
  have hl := lv_entry ([.ref al]) (n := 1) (Nat.le_of_ble_eq_true rfl)
  rw [show entryFrame m args 1 = entryFrame m ([.ref al] : List Value).toArray 1 from by rw [hav], lg_entry_eq]
  generalize (lg_sl ([.ref al]) ++ List.replicate (1 - (lg_sl ([.ref al])).length) Slot.unset).toArray = ls at hl ⊢
  have hl : lv_has ls 1 [(0, .ref al)] := hl
  generalize hQe : MQ below _ _ s _ _ _ = Q
  change W p l e ({ frames := 3, cells := 1, slots := 4, locals := 180 } : Room) s m args below meth c s.heap [] 0 0 Q (F0 m 0 ls [])
  refine va_new (D := (dC, dI)) (ci := 14) (fs := [.int 0, .int 0, .int 0, .null]) (C := RJ25) (T := TJ25) (N := 4) hx hb hts in_J25 tyJ25 tyJ25_ok hown (hts _ q1778) (hts _ q1779) (hts _ q141) hK hP hD hS hA rfl (fun j hj => by rcases (show j = 0 ∨ j = 1 ∨ j = 2 ∨ j = 3 by omega) with rfl | rfl | rfl | rfl <;> rfl) (by first | decide | omega) (by first | decide | omega) dJ20_iterator_0 (fun nw_1 H hP hD hS => ?_)
  have hP : va_P (dC, dI) vwCl [(nw_1, .inr (14, [.int 0, .int 0, .int 0, .null]))] H := hP
  have hD : va_D A [(nw_1, .inr (14, [.int 0, .int 0, .int 0, .null]))] := hD
  refine lv_dup hx hb dJ20_iterator_3 rfl ?_
  refine lv_aload_n hx hb dJ20_iterator_4 rfl (lv_at hl 0 rfl) ?_
  have hF9 := va_free (wc := [(nw_1, .inr (14, [.int 0, .int 0, .int 0, .null]))]) hD hS (fun q h => hA q h) [0] rfl
  refine c_v (wr := []) (va_runI (As := [.ref al]) (rest := [.ref nw_1]) ⟨hx, hb, hml, hown, hts⟩ (j25_init Z (va_A [(nw_1, .inr (14, [.int 0, .int 0, .int 0, .null]))] H.size) H.size (fun q h => Or.inr h) Y2 nw_1 al ed md c9) (cwI 1 hts (lw_meth q1782) rfl rfl rfl (hts _ q141) (hts _ q1780) (hts _ q1781) rfl (by decide +kernel) ⟨Nat.le_of_ble_eq_true rfl, Nat.le_of_ble_eq_true rfl⟩) (gP_S hG hS (fun q _ h => hF9 q h) ⟨rfl, (hP.sub (ws' := [(nw_1, .inr (14, [.int 0, .int 0, .int 0, .null]))]) [0] rfl), (hD.sub (ws' := [(nw_1, .inr (14, [.int 0, .int 0, .int 0, .null]))]) [0] (by decide) rfl).self, (hR0.to hS (fun q _ h => hF9 q h))⟩) rfl rfl hl.1 rfl (lv_room (Nat.le_of_ble_eq_true rfl)) dJ20_iterator_5 ⟨by first | decide | omega | (show _ ≤ (1 : Nat); omega), by first | decide | omega | (show _ ≤ (4 : Nat); omega)⟩) hP hD hS hA [0] [] rfl rfl (by decide) (by decide) (fun u9 H locs hq hX hz hk hP hD hS => ?_)
  have hP : va_P (dC, dI) vwCl [(nw_1, .inr (14, [.int 0, .int (-1), .int md, .ref al]))] H := hP
  have hD : va_D A [(nw_1, .inr (14, [.int 0, .int (-1), .int md, .ref al]))] := hD
  subst hQe
  refine W.widen (k := 1) (n := 4) (by first | decide | omega) (by first | decide | omega) ?_
  exact W.aret (v := .ref nw_1) hx hb hr (Or.inl ⟨_, rfl⟩) (Or.inr ⟨_, rfl⟩) (fun tz ht hW => ⟨⟨(), nw_1, rfl, trivial, B1r_at ht (hP.sub [0] rfl) (hD.sub [0] (by decide) rfl) trivial⟩, hS.F ht⟩) hS.2.2 dJ20_iterator_8
set_option maxHeartbeats 4000000 in
theorem j25_hasNext {l : Launch} {dC : Nat → ClassId} {dI : Nat → Nat → Nat} {dA : Nat → ClassId} {s0 : State} {b0 : Addr} (Z : Z0 l dC dI dA s0 b0) (A : Nat → Prop) (sz : Nat) (hA : ∀ q : Nat, sz ≤ q → A q) {σ : Nat → Nat} {dS : va_G} (Y2 : S2 (dC, dI) dS dA σ s0) (it al ed bm : Nat) (md lr : Int32) (g : Nat → Nat) (c9 cu : Nat) (hcu : cu ≤ c9) (hc9 : c9 ≤ 3000) : Met l yJ25_hasNext (ws_ yJ25_hasNext cJ25_hasNext 1 (some .boolean)) ({ frames := 1, cells := 0, slots := 0, locals := 60 } : Room) (gP [.ref it] s0 A (fun H => H.size = sz ∧ va_P (dC, dI) vwCl [(it, .inr (14, [.int (nI cu), .int lr, .int md, .ref al]))] H ∧ va_D A [(it, .inr (14, [.int (nI cu), .int lr, .int md, .ref al]))] ∧ RO A (dC, dI) [(al, .inr (13, [.int md, .ref ed, .int (nI c9)]))] H)) (va_Qi (S := Unit) (fun r9 _ => r9 = bI (decide (cu < c9))) (B1 (dC, dI) A (fun _ => [(it, .inr (14, [.int (nI cu), .int lr, .int md, .ref al]))]) (fun _ _ => True)) A) 0 0 A := by
  refine Met.ofW (cc := cJ25_hasNext) (maxL := 1) (ret := (some .boolean)) (by decide) rfl ?_
  intro p e s m args below meth c s₁ B hml hv
  obtain ⟨hav, hG, hsz, hP, hD, hR0⟩ := hv
  have hx := B.exec
  have hb := B.bytes
  have hr := B.returns
  have hts := atoms_spec (ws := (ws_ yJ25_hasNext cJ25_hasNext 1 (some .boolean))) B.pre
  have hts : ∀ w ∈ lw_all, w.before _ s = true := fun w h => hts w (List.mem_cons_of_mem _ h)
  have hown : s.vm.findClass RJ25 = some m.cls := findClass_of_methodNamed B.named
  have hlocks := B.notSynchronized
  have hK := hG.K Z
  subst hsz
  have hS : va_S A s.heap s.heap [] := va_S.rf
  have hl := lv_entry ([.ref it]) (n := 1) (Nat.le_of_ble_eq_true rfl)
  rw [show entryFrame m args 1 = entryFrame m ([.ref it] : List Value).toArray 1 from by rw [hav], lg_entry_eq]
  generalize (lg_sl ([.ref it]) ++ List.replicate (1 - (lg_sl ([.ref it])).length) Slot.unset).toArray = ls at hl ⊢
  have hl : lv_has ls 1 [(0, .ref it)] := hl
  generalize hQe : MQ below _ _ s _ _ _ = Q
  change W p l e ({ frames := 1, cells := 0, slots := 0, locals := 60 } : Room) s m args below meth c s.heap [] 0 0 Q (F0 m 0 ls [])
  refine lv_aload_n hx hb dJ25_hasNext_0 rfl (lv_at hl 0 rfl) ?_
  refine va_get (D := (dC, dI)) (ci := 14) (v := .int (nI cu)) (C := RJ25) (T := TJ25) (N := 4) hx hb hts in_J25 hown hK hP 0 rfl rfl 0 (by decide) (hts _ q1784) (fun _ h9 => h9) rfl dJ25_hasNext_1 ?_
  refine lv_aload_n hx hb dJ25_hasNext_4 rfl (lv_at hl 0 rfl) ?_
  refine va_get (D := (dC, dI)) (ci := 14) (v := .ref al) (C := RJ25) (T := TJ25) (N := 4) hx hb hts in_J25 hown hK hP 0 rfl rfl 3 (by decide) (hts _ q1787) (fun _ h9 => h9) rfl dJ25_hasNext_5 ?_
  refine va_getN (D := (dC, dI)) (ci := 13) (v := .int (nI c9)) (C := RJ20) (T := TJ20) (N := 3) hx hb hts in_J20 hown hK (hR0.up hS) 0 rfl rfl 2 (by decide) (((va_Nw.warmF hG.1 (va_Nw.of rfl (Z.2.1 _ q1596)))).use rfl) (fun _ h9 => h9) rfl dJ25_hasNext_8 ?_
  refine lv_icmp_eq (tgt := 18) hx hb dJ25_hasNext_11 (by decide) (fun c_11 => ?_) (fun c_11 => ?_)
  · have c_11 : cu = c9 := (nI_eq (a := cu) (b := c9) (by omega) (by omega)).mp c_11
    refine lv_iconst (v := nI 0) hx hb dJ25_hasNext_18 (by decide) ?_
    subst hQe
    exact W.zret (v := nI 0) hx hb hr rfl (fun tz ht hW => ⟨⟨_, (), rfl, (by rw [decide_eq_false (show ¬ cu < c9 by omega)]; rfl), B1_at ht (hP.sub [0] rfl) (hD.sub [0] (by decide) rfl) trivial⟩, hS.F ht⟩) hS.2.2 dJ25_hasNext_19
  · have c_11 : ¬ cu = c9 := fun h => c_11 ((nI_eq (a := cu) (b := c9) (by omega) (by omega)).mpr h)
    refine lv_iconst (v := nI 1) hx hb dJ25_hasNext_14 (by decide) ?_
    refine lv_goto (tgt := 19) hx hb dJ25_hasNext_15 (by decide) ?_
    subst hQe
    exact W.zret (v := nI 1) hx hb hr rfl (fun tz ht hW => ⟨⟨_, (), rfl, (by rw [decide_eq_true (show cu < c9 by omega)]; rfl), B1_at ht (hP.sub [0] rfl) (hD.sub [0] (by decide) rfl) trivial⟩, hS.F ht⟩) hS.2.2 dJ25_hasNext_19
set_option maxHeartbeats 4000000 in
theorem j25_check {l : Launch} {dC : Nat → ClassId} {dI : Nat → Nat → Nat} {dA : Nat → ClassId} {s0 : State} {b0 : Addr} (Z : Z0 l dC dI dA s0 b0) (A : Nat → Prop) (sz : Nat) (hA : ∀ q : Nat, sz ≤ q → A q) {σ : Nat → Nat} {dS : va_G} (Y2 : S2 (dC, dI) dS dA σ s0) (it al ed bm : Nat) (md lr : Int32) (g : Nat → Nat) (c9 cu : Nat) : Met l yJ25_checkForComodification (ws_ yJ25_checkForComodification cJ25_checkForComodification 1 none) ({ frames := 1, cells := 0, slots := 0, locals := 60 } : Room) (gP [.ref it] s0 A (fun H => H.size = sz ∧ va_P (dC, dI) vwCl [(it, .inr (14, [.int (nI cu), .int lr, .int md, .ref al]))] H ∧ va_D A [(it, .inr (14, [.int (nI cu), .int lr, .int md, .ref al]))] ∧ RO A (dC, dI) [(al, .inr (13, [.int md, .ref ed, .int (nI c9)]))] H)) (va_Qv (S := Unit) (fun _ => True) (B1 (dC, dI) A (fun _ => [(it, .inr (14, [.int (nI cu), .int lr, .int md, .ref al]))]) (fun _ _ => True)) A) 0 0 A := by
  refine Met.ofW (cc := cJ25_checkForComodification) (maxL := 1) (ret := none) (by decide) rfl ?_
  intro p e s m args below meth c s₁ B hml hv
  obtain ⟨hav, hG, hsz, hP, hD, hR0⟩ := hv
  have hx := B.exec
  have hb := B.bytes
  have hr := B.returns
  have hts := atoms_spec (ws := (ws_ yJ25_checkForComodification cJ25_checkForComodification 1 none)) B.pre
  have hts : ∀ w ∈ lw_all, w.before _ s = true := fun w h => hts w (List.mem_cons_of_mem _ h)
  have hown : s.vm.findClass RJ25 = some m.cls := findClass_of_methodNamed B.named
  have hlocks := B.notSynchronized
  have hK := hG.K Z
  subst hsz
  have hS : va_S A s.heap s.heap [] := va_S.rf
  have hl := lv_entry ([.ref it]) (n := 1) (Nat.le_of_ble_eq_true rfl)
  rw [show entryFrame m args 1 = entryFrame m ([.ref it] : List Value).toArray 1 from by rw [hav], lg_entry_eq]
  generalize (lg_sl ([.ref it]) ++ List.replicate (1 - (lg_sl ([.ref it])).length) Slot.unset).toArray = ls at hl ⊢
  have hl : lv_has ls 1 [(0, .ref it)] := hl
  generalize hQe : MQ below _ _ s _ _ _ = Q
  change W p l e ({ frames := 1, cells := 0, slots := 0, locals := 60 } : Room) s m args below meth c s.heap [] 0 0 Q (F0 m 0 ls [])
  refine lv_aload_n hx hb dJ25_checkForComodification_0 rfl (lv_at hl 0 rfl) ?_
  refine va_get (D := (dC, dI)) (ci := 14) (v := .ref al) (C := RJ25) (T := TJ25) (N := 4) hx hb hts in_J25 hown hK hP 0 rfl rfl 3 (by decide) (hts _ q1787) (fun _ h9 => h9) rfl dJ25_checkForComodification_1 ?_
  refine va_get (D := (dC, dI)) (ci := 13) (v := .int md) (C := RJ20) (T := TJ20) (N := 3) hx hb hts in_J20 hown hK (hR0.up hS) 0 rfl rfl 0 (by decide) (hts _ q1599) (fun x9 h9 => u_same (hts _ q1600) x9 h9) rfl dJ25_checkForComodification_4 ?_
  refine lv_aload_n hx hb dJ25_checkForComodification_7 rfl (lv_at hl 0 rfl) ?_
  refine va_get (D := (dC, dI)) (ci := 14) (v := .int md) (C := RJ25) (T := TJ25) (N := 4) hx hb hts in_J25 hown hK hP 0 rfl rfl 2 (by decide) (hts _ q1786) (fun _ h9 => h9) rfl dJ25_checkForComodification_8 ?_
  refine lv_icmp_eq (tgt := 22) hx hb dJ25_checkForComodification_11 (by decide) (fun c_11 => ?_) (fun c_11 => ?_)
  · subst hQe
    exact W.vret hx hb hr (fun tz ht hW => ⟨⟨(), rfl, trivial, B1_at ht (hP.sub [0] rfl) (hD.sub [0] (by decide) rfl) trivial⟩, hS.F ht⟩) hS.2.2 dJ25_checkForComodification_22
  · exact absurd rfl c_11
set_option maxHeartbeats 4000000 in
theorem j25_next {l : Launch} {dC : Nat → ClassId} {dI : Nat → Nat → Nat} {dA : Nat → ClassId} {s0 : State} {b0 : Addr} (Z : Z0 l dC dI dA s0 b0) (A : Nat → Prop) (sz : Nat) (hA : ∀ q : Nat, sz ≤ q → A q) {σ : Nat → Nat} {dS : va_G} (Y2 : S2 (dC, dI) dS dA σ s0) (it al ed bm : Nat) (md lr : Int32) (g : Nat → Nat) (c9 cu : Nat) (hcu : cu < c9) (hc9 : c9 ≤ bm) (h3 : bm ≤ 3000) : Met l yJ25_next (ws_ yJ25_next cJ25_next 3 (some (.object "java/lang/Object"))) ({ frames := 2, cells := 0, slots := 0, locals := 120 } : Room) (gP [.ref it] s0 A (fun H => H.size = sz ∧ va_P (dC, dI) vwCl [(it, .inr (14, [.int (nI cu), .int lr, .int md, .ref al]))] H ∧ va_D A [(it, .inr (14, [.int (nI cu), .int lr, .int md, .ref al]))] ∧ RO A (dC, dI) [(al, .inr (13, [.int md, .ref ed, .int (nI c9)])), (ed, .inl (dA 8, bm, .inr (.inr (.inr (.inr (lsE g c9))))))] H)) (va_Qr (S := Unit) (fun _ => True) (B1r (dC, dI) A (fun _ _ => [(it, .inr (14, [.int (nI (cu + 1)), .int (nI cu), .int md, .ref al]))]) (fun _ q _ => q = g cu)) A) 0 0 A := by
  refine Met.ofW (cc := cJ25_next) (maxL := 3) (ret := (some (.object "java/lang/Object"))) (by decide) rfl ?_
  intro p e s m args below meth c s₁ B hml hv
  obtain ⟨hav, hG, hsz, hP, hD, hR0⟩ := hv
  have hx := B.exec
  have hb := B.bytes
  have hr := B.returns
  have hts := atoms_spec (ws := (ws_ yJ25_next cJ25_next 3 (some (.object "java/lang/Object")))) B.pre
  have hts : ∀ w ∈ lw_all, w.before _ s = true := fun w h => hts w (List.mem_cons_of_mem _ h)
  have hown : s.vm.findClass RJ25 = some m.cls := findClass_of_methodNamed B.named
  have hlocks := B.notSynchronized
  have hK := hG.K Z
  subst hsz
  have hS : va_S A s.heap s.heap [] := va_S.rf
  have hl := lv_entry ([.ref it]) (n := 3) (Nat.le_of_ble_eq_true rfl)
  rw [show entryFrame m args 3 = entryFrame m ([.ref it] : List Value).toArray 3 from by rw [hav], lg_entry_eq]
  generalize (lg_sl ([.ref it]) ++ List.replicate (3 - (lg_sl ([.ref it])).length) Slot.unset).toArray = ls at hl ⊢
  have hl : lv_has ls 3 [(0, .ref it)] := hl
  generalize hQe : MQ below _ _ s _ _ _ = Q
  change W p l e ({ frames := 2, cells := 0, slots := 0, locals := 120 } : Room) s m args below meth c s.heap [] 0 0 Q (F0 m 0 ls [])
  refine lv_aload_n hx hb dJ25_next_0 rfl (lv_at hl 0 rfl) ?_
  have hF9 := va_free (wc := [(it, .inr (14, [.int (nI cu), .int lr, .int md, .ref al]))]) hD hS (fun q h => hA q h) [0] rfl
  refine c_v (wr := []) (va_runV (As := []) (rest := []) ⟨hx, hb, hml, hown, hts⟩ (j25_check Z (va_A [(it, .inr (14, [.int (nI cu), .int lr, .int md, .ref al]))] s.heap.size) s.heap.size (fun q h => Or.inr h) Y2 it al ed bm md lr g c9 cu) (cwV 0 hts (lw_V q1003 q1004 q1005 q141 q1006) rfl rfl rfl (by decide +kernel) ⟨Nat.le_of_ble_eq_true rfl, Nat.le_of_ble_eq_true rfl⟩) (gP_V (va_recv hK hP (ci := 14) (q0 := 0) rfl rfl) hG hS (fun q _ h => hF9 q h) ⟨rfl, (hP.sub (ws' := [(it, .inr (14, [.int (nI cu), .int lr, .int md, .ref al]))]) [0] rfl), (hD.sub (ws' := [(it, .inr (14, [.int (nI cu), .int lr, .int md, .ref al]))]) [0] (by decide) rfl).self, ((hR0.to hS (fun q _ h => hF9 q h)).sub [0] rfl)⟩) rfl rfl hl.1 rfl (lv_room (Nat.le_of_ble_eq_true rfl)) dJ25_next_1 ⟨by first | decide | omega | (show _ ≤ (0 : Nat); omega), by first | decide | omega | (show _ ≤ (0 : Nat); omega)⟩) hP hD hS hA [0] [] rfl rfl (by decide) (by decide) (fun u9 H locs hq hX hz hk hP hD hS => ?_)
  have hP : va_P (dC, dI) vwCl [(it, .inr (14, [.int (nI cu), .int lr, .int md, .ref al]))] H := hP
  have hD : va_D A [(it, .inr (14, [.int (nI cu), .int lr, .int md, .ref al]))] := hD
  refine lv_aload_n hx hb dJ25_next_4 rfl (lv_at hl 0 rfl) ?_
  refine va_get (D := (dC, dI)) (ci := 14) (v := .int (nI cu)) (C := RJ25) (T := TJ25) (N := 4) hx hb hts in_J25 hown hK hP 0 rfl rfl 0 (by decide) (hts _ q1784) (fun _ h9 => h9) rfl dJ25_next_5 ?_
  refine lv_istore_n (lv' := [(1, .int (nI cu)), (0, .ref it)]) hx hb dJ25_next_8 rfl hl (by decide) rfl (fun ls hl => ?_)
  refine lv_iload_n hx hb dJ25_next_9 rfl (lv_at hl 0 rfl) ?_
  refine lv_aload_n hx hb dJ25_next_10 rfl (lv_at hl 1 rfl) ?_
  refine va_get (D := (dC, dI)) (ci := 14) (v := .ref al) (C := RJ25) (T := TJ25) (N := 4) hx hb hts in_J25 hown hK hP 0 rfl rfl 3 (by decide) (hts _ q1787) (fun _ h9 => h9) rfl dJ25_next_11 ?_
  refine va_getN (D := (dC, dI)) (ci := 13) (v := .int (nI c9)) (C := RJ20) (T := TJ20) (N := 3) hx hb hts in_J20 hown hK (hR0.up hS) 0 rfl rfl 2 (by decide) (((va_Nw.warmF hG.1 (va_Nw.of rfl (Z.2.1 _ q1596)))).use rfl) (fun _ h9 => h9) rfl dJ25_next_14 ?_
  refine lv_icmp_lt (tgt := 28) hx hb dJ25_next_17 (by decide) (fun c_17 => ?_) (fun c_17 => ?_)
  · have c_17 : cu < c9 := (nI_ltI (a := cu) (b := c9) (by omega) (by omega)).mp c_17
    refine lv_aload_n hx hb dJ25_next_28 rfl (lv_at hl 1 rfl) ?_
    refine va_get (D := (dC, dI)) (ci := 14) (v := .ref al) (C := RJ25) (T := TJ25) (N := 4) hx hb hts in_J25 hown hK hP 0 rfl rfl 3 (by decide) (hts _ q1787) (fun _ h9 => h9) rfl dJ25_next_29 ?_
    refine va_get (D := (dC, dI)) (ci := 13) (v := .ref ed) (C := RJ20) (T := TJ20) (N := 3) hx hb hts in_J20 hown hK (hR0.up hS) 0 rfl rfl 1 (by decide) (hts _ q1595) (fun _ h9 => h9) rfl dJ25_next_32 ?_
    refine lv_astore_n (lv' := [(2, .ref ed), (1, .int (nI cu)), (0, .ref it)]) hx hb dJ25_next_35 rfl hl (by decide) rfl (fun ls hl => ?_)
    refine lv_iload_n hx hb dJ25_next_36 rfl (lv_at hl 1 rfl) ?_
    refine lv_aload_n hx hb dJ25_next_37 rfl (lv_at hl 0 rfl) ?_
    refine va_alen (v := nI bm) hx hb hK (hR0.up hS) 1 8 rfl rfl rfl dJ25_next_38 ?_
    refine lv_icmp_lt (tgt := 50) hx hb dJ25_next_39 (by decide) (fun c_39 => ?_) (fun c_39 => ?_)
    · have c_39 : cu < bm := (nI_ltI (a := cu) (b := bm) (by omega) (by omega)).mp c_39
      refine lv_aload_n hx hb dJ25_next_50 rfl (lv_at hl 2 rfl) ?_
      refine lv_iload_n hx hb dJ25_next_51 rfl (lv_at hl 1 rfl) ?_
      refine lv_iconst (v := nI 1) hx hb dJ25_next_52 (by decide) ?_
      refine lv_iadd hx hb dJ25_next_53 ?_
      refine e_i (y := nI (cu + 1)) (nI_add _ _) ?_
      refine va_put (D := (dC, dI)) (ci := 14) (v := .int (nI (cu + 1))) (ty := .int) (C := RJ25) (T := TJ25) (N := 4) hx hb hts in_J25 tyJ25 tyJ25_ok nmJ25 hown hK hP hD hS 0 rfl rfl 0 (by decide) (hts _ q1784) (fun _ h9 => h9) rfl (by decide +kernel) rfl rfl (Nat.le_of_ble_eq_true rfl) dJ25_next_54 (fun H locs hP hD hS => ?_)
      have hP : va_P (dC, dI) vwCl [(it, .inr (14, [.int (nI (cu + 1)), .int lr, .int md, .ref al]))] H := hP
      have hD : va_D A [(it, .inr (14, [.int (nI (cu + 1)), .int lr, .int md, .ref al]))] := hD
      refine lv_aload_n hx hb dJ25_next_57 rfl (lv_at hl 0 rfl) ?_
      refine lv_aload_n hx hb dJ25_next_58 rfl (lv_at hl 2 rfl) ?_
      refine lv_iload_n hx hb dJ25_next_59 rfl (lv_at hl 1 rfl) ?_
      refine lv_dup_x1 hx hb dJ25_next_60 rfl rfl ?_
      refine va_put (D := (dC, dI)) (ci := 14) (v := .int (nI cu)) (ty := .int) (C := RJ25) (T := TJ25) (N := 4) hx hb hts in_J25 tyJ25 tyJ25_ok nmJ25 hown hK hP hD hS 0 rfl rfl 1 (by decide) (hts _ q1785) (fun _ h9 => h9) rfl (by decide +kernel) rfl rfl (Nat.le_of_ble_eq_true rfl) dJ25_next_61 (fun H locs hP hD hS => ?_)
      have hP : va_P (dC, dI) vwCl [(it, .inr (14, [.int (nI (cu + 1)), .int (nI cu), .int md, .ref al]))] H := hP
      have hD : va_D A [(it, .inr (14, [.int (nI (cu + 1)), .int (nI cu), .int md, .ref al]))] := hD
      refine a_aldq hx hb hK (hR0.up hS) 1 8 rfl rfl (by omega) (by omega) dJ25_next_64 ?_
      refine e_v (y := .ref (g cu)) (congrArg va_rf (lsE_at hcu)) ?_
      subst hQe
      exact W.aret (v := .ref (g cu)) hx hb hr (Or.inl ⟨_, rfl⟩) (Or.inr ⟨_, rfl⟩) (fun tz ht hW => ⟨⟨(), g cu, rfl, trivial, B1r_at ht (hP.sub [0] rfl) (hD.sub [0] (by decide) rfl) rfl⟩, hS.F ht⟩) hS.2.2 dJ25_next_65
    · have c_39 : ¬ cu < bm := fun h => c_39 ((nI_ltI (a := cu) (b := bm) (by omega) (by omega)).mpr h)
      exfalso; omega
  · have c_17 : ¬ cu < c9 := fun h => c_17 ((nI_ltI (a := cu) (b := c9) (by omega) (by omega)).mpr h)
    exfalso; omega
set_option maxHeartbeats 4000000 in
theorem j23_init {l : Launch} {dC : Nat → ClassId} {dI : Nat → Nat → Nat} {dA : Nat → ClassId} {s0 : State} {b0 : Addr} (Z : Z0 l dC dI dA s0 b0) (A : Nat → Prop) (sz : Nat) (hA : ∀ q : Nat, sz ≤ q → A q) {σ : Nat → Nat} {dS : va_G} (Y2 : S2 (dC, dI) dS dA σ s0) (ia : Nat) : Met l yJ23_init (ws_ yJ23_init cJ23_init 1 none) ({ frames := 2, cells := 0, slots := 0, locals := 120 } : Room) (gP [.ref ia] s0 A (fun H => H.size = sz ∧ va_P (dC, dI) vwCl [(ia, .inr (16, [.int 0]))] H ∧ va_D A [(ia, .inr (16, [.int 0]))])) (va_Qv (S := Unit) (fun _ => True) (B1 (dC, dI) A (fun _ => [(ia, .inr (16, [.int 0]))]) (fun _ _ => True)) A) 0 0 A := by
  refine Met.ofW (cc := cJ23_init) (maxL := 1) (ret := none) (by decide) rfl ?_
  intro p e s m args below meth c s₁ B hml hv
  obtain ⟨hav, hG, hsz, hP, hD⟩ := hv
  have hx := B.exec
  have hb := B.bytes
  have hr := B.returns
  have hts := atoms_spec (ws := (ws_ yJ23_init cJ23_init 1 none)) B.pre
  have hts : ∀ w ∈ lw_all, w.before _ s = true := fun w h => hts w (List.mem_cons_of_mem _ h)
  have hown : s.vm.findClass RJ23 = some m.cls := findClass_of_methodNamed B.named
  have hlocks := B.notSynchronized
  have hK := hG.K Z
  have hin : meth.name = "<init>" := (name_of_methodNamed B.named B.method).1
  subst hsz
  have hS : va_S A s.heap s.heap [] := va_S.rf
  have hl := lv_entry ([.ref ia]) (n := 1) (Nat.le_of_ble_eq_true rfl)
  rw [show entryFrame m args 1 = entryFrame m ([.ref ia] : List Value).toArray 1 from by rw [hav], lg_entry_eq]
  generalize (lg_sl ([.ref ia]) ++ List.replicate (1 - (lg_sl ([.ref ia])).length) Slot.unset).toArray = ls at hl ⊢
  have hl : lv_has ls 1 [(0, .ref ia)] := hl
  generalize hQe : MQ below _ _ s _ _ _ = Q
  change W p l e ({ frames := 2, cells := 0, slots := 0, locals := 120 } : Room) s m args below meth c s.heap [] 0 0 Q (F0 m 0 ls [])
  refine lv_aload_n hx hb dJ23_init_0 rfl (lv_at hl 0 rfl) ?_
  refine W.objInit hx hb hown (hts _ q1755) (hts _ q151) (hts _ q152) rfl (by rw [hml]; exact hl.1) rfl dJ23_init_1 (Nat.le_of_ble_eq_true rfl) (Nat.le_of_ble_eq_true rfl) ?_
  show W p l e ({ frames := 2, cells := 0, slots := 0, locals := 120 } : Room) s m args below meth c s.heap [] 0 0 Q (F0 m 4 ls [])
  subst hQe
  exact W.vret hx hb hr (fun tz ht hW => ⟨⟨(), rfl, trivial, B1_at ht (hP.sub [0] rfl) (hD.sub [0] (by decide) rfl) trivial⟩, hS.F ht⟩) hS.2.2 dJ23_init_4
set_option maxHeartbeats 4000000 in
theorem j24_init {l : Launch} {dC : Nat → ClassId} {dI : Nat → Nat → Nat} {dA : Nat → ClassId} {s0 : State} {b0 : Addr} (Z : Z0 l dC dI dA s0 b0) (A : Nat → Prop) (sz : Nat) (hA : ∀ q : Nat, sz ≤ q → A q) {σ : Nat → Nat} {dS : va_G} (Y2 : S2 (dC, dI) dS dA σ s0) (ia v : Nat) : Met l yJ24_init (ws_ yJ24_init cJ24_init 2 none) ({ frames := 3, cells := 0, slots := 0, locals := 180 } : Room) (gP [.ref ia, .int (nI v)] s0 A (fun H => H.size = sz ∧ va_P (dC, dI) vwCl [(ia, .inr (16, [.int 0]))] H ∧ va_D A [(ia, .inr (16, [.int 0]))])) (va_Qv (S := Unit) (fun _ => True) (B1 (dC, dI) A (fun _ => [(ia, .inr (16, [.int (nI v)]))]) (fun _ _ => True)) A) 0 0 A := by
  refine Met.ofW (cc := cJ24_init) (maxL := 2) (ret := none) (by decide) rfl ?_
  intro p e s m args below meth c s₁ B hml hv
  obtain ⟨hav, hG, hsz, hP, hD⟩ := hv
  have hx := B.exec
  have hb := B.bytes
  have hr := B.returns
  have hts := atoms_spec (ws := (ws_ yJ24_init cJ24_init 2 none)) B.pre
  have hts : ∀ w ∈ lw_all, w.before _ s = true := fun w h => hts w (List.mem_cons_of_mem _ h)
  have hown : s.vm.findClass RJ24 = some m.cls := findClass_of_methodNamed B.named
  have hlocks := B.notSynchronized
  have hK := hG.K Z
  have hin : meth.name = "<init>" := (name_of_methodNamed B.named B.method).1
  subst hsz
  have hS : va_S A s.heap s.heap [] := va_S.rf
  have hl := lv_entry ([.ref ia, .int (nI v)]) (n := 2) (Nat.le_of_ble_eq_true rfl)
  rw [show entryFrame m args 2 = entryFrame m ([.ref ia, .int (nI v)] : List Value).toArray 2 from by rw [hav], lg_entry_eq]
  generalize (lg_sl ([.ref ia, .int (nI v)]) ++ List.replicate (2 - (lg_sl ([.ref ia, .int (nI v)])).length) Slot.unset).toArray = ls at hl ⊢
  have hl : lv_has ls 2 [(0, .ref ia), (1, .int (nI v))] := hl
  generalize hQe : MQ below _ _ s _ _ _ = Q
  change W p l e ({ frames := 3, cells := 0, slots := 0, locals := 180 } : Room) s m args below meth c s.heap [] 0 0 Q (F0 m 0 ls [])
  refine lv_aload_n hx hb dJ24_init_0 rfl (lv_at hl 0 rfl) ?_
  have hF9 := va_free (wc := [(ia, .inr (16, [.int 0]))]) hD hS (fun q h => hA q h) [0] rfl
  refine c_v (wr := []) (va_runI (As := []) (rest := []) ⟨hx, hb, hml, hown, hts⟩ (j23_init Z (va_A [(ia, .inr (16, [.int 0]))] s.heap.size) s.heap.size (fun q h => Or.inr h) Y2 ia) (cwI 0 hts (lw_meth q1754) rfl rfl rfl (hts _ q138) (hts _ q1752) (hts _ q1753) rfl (by decide +kernel) ⟨Nat.le_of_ble_eq_true rfl, Nat.le_of_ble_eq_true rfl⟩) (gP_S hG hS (fun q _ h => hF9 q h) ⟨rfl, (hP.sub (ws' := [(ia, .inr (16, [.int 0]))]) [0] rfl), (hD.sub (ws' := [(ia, .inr (16, [.int 0]))]) [0] (by decide) rfl).self⟩) rfl rfl hl.1 rfl (lv_room (Nat.le_of_ble_eq_true rfl)) dJ24_init_1 ⟨by first | decide | omega | (show _ ≤ (0 : Nat); omega), by first | decide | omega | (show _ ≤ (0 : Nat); omega)⟩) hP hD hS hA [0] [] rfl rfl (by decide) (by decide) (fun u9 H locs hq hX hz hk hP hD hS => ?_)
  have hP : va_P (dC, dI) vwCl [(ia, .inr (16, [.int 0]))] H := hP
  have hD : va_D A [(ia, .inr (16, [.int 0]))] := hD
  refine lv_aload_n hx hb dJ24_init_4 rfl (lv_at hl 0 rfl) ?_
  refine lv_iload_n hx hb dJ24_init_5 rfl (lv_at hl 1 rfl) ?_
  refine va_putF (D := (dC, dI)) (ci := 16) (v := .int (nI v)) (ty := .int) (C := RJ24) (T := TJ24) (N := 1) hx hb hts in_J24 tyJ24 tyJ24_ok nmJ24 hown hK hP hD hS 0 rfl rfl 0 (by decide) (hts _ q1756) (fun _ h9 => h9) rfl hin rfl (by decide +kernel) rfl rfl (Nat.le_of_ble_eq_true rfl) dJ24_init_6 (fun H locs hP hD hS => ?_)
  have hP : va_P (dC, dI) vwCl [(ia, .inr (16, [.int (nI v)]))] H := hP
  have hD : va_D A [(ia, .inr (16, [.int (nI v)]))] := hD
  subst hQe
  exact W.vret hx hb hr (fun tz ht hW => ⟨⟨(), rfl, trivial, B1_at ht (hP.sub [0] rfl) (hD.sub [0] (by decide) rfl) trivial⟩, hS.F ht⟩) hS.2.2 dJ24_init_9
set_option maxHeartbeats 4000000 in
theorem j24_valueOf {l : Launch} {dC : Nat → ClassId} {dI : Nat → Nat → Nat} {dA : Nat → ClassId} {s0 : State} {b0 : Addr} (Z : Z0 l dC dI dA s0 b0) (A : Nat → Prop) (sz : Nat) (hA : ∀ q : Nat, sz ≤ q → A q) {σ : Nat → Nat} {dS : va_G} (Y2 : S2 (dC, dI) dS dA σ s0) (v : Nat) (hv : v < 1000) : Met l yJ24_valueOf (ws_ yJ24_valueOf cJ24_valueOf 1 (some (.object "java/lang/Integer"))) ({ frames := 4, cells := 1, slots := 1, locals := 240 } : Room) (gP [.int (nI v)] s0 A (fun H => H.size = sz)) (va_Qr (S := va_W) (fun _ => True) (B1r (dC, dI) A (fun u _ => u) (fun u q _ => (u = [] ∧ q = σ (1128 + v) ∧ v < 128) ∨ u = [(q, .inr (16, [.int (nI v)]))])) A) 1 1 A := by
  refine Met.ofW (cc := cJ24_valueOf) (maxL := 1) (ret := (some (.object "java/lang/Integer"))) (by decide) rfl ?_
  intro p e s m args below meth c s₁ B hml hv
  obtain ⟨hav, hG, hsz⟩ := hv
  have hx := B.exec
  have hb := B.bytes
  have hr := B.returns
  have hts := atoms_spec (ws := (ws_ yJ24_valueOf cJ24_valueOf 1 (some (.object "java/lang/Integer")))) B.pre
  have hts : ∀ w ∈ lw_all, w.before _ s = true := fun w h => hts w (List.mem_cons_of_mem _ h)
  have hown : s.vm.findClass RJ24 = some m.cls := findClass_of_methodNamed B.named
  have hlocks := B.notSynchronized
  have hK := hG.K Z
  subst hsz
  have hS : va_S A s.heap s.heap [] := va_S.rf
  have hP : va_P (dC, dI) vwCl [] s.heap := fun k q h => by simp at h
  have hD : va_D A [] := ⟨fun i j p q h => by simp at h, fun k q h => by simp at h⟩
  have hl := lv_entry ([.int (nI v)]) (n := 1) (Nat.le_of_ble_eq_true rfl)
  rw [show entryFrame m args 1 = entryFrame m ([.int (nI v)] : List Value).toArray 1 from by rw [hav], lg_entry_eq]
  generalize (lg_sl ([.int (nI v)]) ++ List.replicate (1 - (lg_sl ([.int (nI v)])).length) Slot.unset).toArray = ls at hl ⊢
  have hl : lv_has ls 1 [(0, .int (nI v))] := hl
  generalize hQe : MQ below _ _ s _ _ _ = Q
  change W p l e ({ frames := 4, cells := 1, slots := 1, locals := 240 } : Room) s m args below meth c s.heap [] 0 0 Q (F0 m 0 ls [])
  obtain ⟨hIh, hIc, cI, hIt, hIa, hIe⟩ := Y2.2.2.2.2.1
  refine lv_iload_n hx hb dJ24_valueOf_0 rfl (lv_at hl 0 rfl) ?_
  refine lv_bipush (v := (-128)) hx hb dJ24_valueOf_1 (by decide) ?_
  refine lv_icmp_lt (tgt := 23) hx hb dJ24_valueOf_3 (by decide) (fun c_3 => ?_) (fun c_3 => ?_)
  · exact absurd c_3 (int_ge (by omega))
  · refine lv_iload_n hx hb dJ24_valueOf_6 rfl (lv_at hl 0 rfl) ?_
    refine va_gets (v := .int (nI 127)) hx hb (hG.Z Z hIh) hS hown (hts _ q1743) (fun _ h9 => h9) dJ24_valueOf_7 ?_
    refine lv_icmp_gt (tgt := 23) hx hb dJ24_valueOf_10 (by decide) (fun c_10 => ?_) (fun c_10 => ?_)
    · have c_10 : 127 < v := (nI_ltI (a := 127) (b := v) (by omega) (by omega)).mp c_10
      refine va_new (D := (dC, dI)) (ci := 16) (fs := [.int 0]) (C := RJ24) (T := TJ24) (N := 1) hx hb hts in_J24 tyJ24 tyJ24_ok hown (hts _ q1747) (hts _ q1748) (hts _ q139) hK hP hD hS hA rfl (fun j hj => by rcases (show j = 0 by omega) with rfl <;> rfl) (by first | decide | omega) (by first | decide | omega) dJ24_valueOf_23 (fun nw_1 H hP hD hS => ?_)
      have hP : va_P (dC, dI) vwCl [(nw_1, .inr (16, [.int 0]))] H := hP
      have hD : va_D A [(nw_1, .inr (16, [.int 0]))] := hD
      refine lv_dup hx hb dJ24_valueOf_26 rfl ?_
      refine lv_iload_n hx hb dJ24_valueOf_27 rfl (lv_at hl 0 rfl) ?_
      have hF9 := va_free (wc := [(nw_1, .inr (16, [.int 0]))]) hD hS (fun q h => hA q h) [0] rfl
      refine c_v (wr := []) (va_runI (As := [.int (nI v)]) (rest := [.ref nw_1]) ⟨hx, hb, hml, hown, hts⟩ (j24_init Z (va_A [(nw_1, .inr (16, [.int 0]))] H.size) H.size (fun q h => Or.inr h) Y2 nw_1 v) (cwI 1 hts (lw_meth q1751) rfl rfl rfl (hts _ q139) (hts _ q1749) (hts _ q1750) rfl (by decide +kernel) ⟨Nat.le_of_ble_eq_true rfl, Nat.le_of_ble_eq_true rfl⟩) (gP_S hG hS (fun q _ h => hF9 q h) ⟨rfl, (hP.sub (ws' := [(nw_1, .inr (16, [.int 0]))]) [0] rfl), (hD.sub (ws' := [(nw_1, .inr (16, [.int 0]))]) [0] (by decide) rfl).self⟩) rfl rfl hl.1 rfl (lv_room (Nat.le_of_ble_eq_true rfl)) dJ24_valueOf_28 ⟨by first | decide | omega | (show _ ≤ (1 : Nat); omega), by first | decide | omega | (show _ ≤ (1 : Nat); omega)⟩) hP hD hS hA [0] [] rfl rfl (by decide) (by decide) (fun u9 H locs hq hX hz hk hP hD hS => ?_)
      have hP : va_P (dC, dI) vwCl [(nw_1, .inr (16, [.int (nI v)]))] H := hP
      have hD : va_D A [(nw_1, .inr (16, [.int (nI v)]))] := hD
      subst hQe
      refine W.widen (k := 1) (n := 1) (by first | decide | omega) (by first | decide | omega) ?_
      exact W.aret (v := .ref nw_1) hx hb hr (Or.inl ⟨_, rfl⟩) (Or.inr ⟨_, rfl⟩) (fun tz ht hW => ⟨⟨[(nw_1, .inr (16, [.int (nI v)]))], nw_1, rfl, trivial, B1r_at ht (hP.sub [0] rfl) (hD.sub [0] (by decide) rfl) (Or.inr rfl)⟩, hS.F ht⟩) hS.2.2 dJ24_valueOf_31
    · have c_10 : ¬ 127 < v := fun h => c_10 ((nI_ltI (a := 127) (b := v) (by omega) (by omega)).mpr h)
      refine va_gets (v := .ref (σ 63)) hx hb (hG.Z Z hIc) hS hown (hts _ q1745) (fun _ h9 => h9) dJ24_valueOf_13 ?_
      refine lv_iload_n hx hb dJ24_valueOf_16 rfl (lv_at hl 0 rfl) ?_
      refine lv_sipush (v := nI 128) hx hb dJ24_valueOf_17 (by decide) ?_
      refine lv_iadd hx hb dJ24_valueOf_20 ?_
      refine e_i (y := nI (v + 128)) (nI_add _ _) ?_
      refine a_aldX hx hb (ArrOfT.moved_ hG.1.alike hIt) ((hG.RO hIa).up hS) 0 rfl (by omega) (by omega) dJ24_valueOf_21 ?_
      refine e_v (y := .ref (σ (1128 + v))) (congrArg (fun z => va_rf (some (σ z))) (show 1000 + (v + 128) = 1128 + v by omega)) ?_
      subst hQe
      refine W.widen (k := 1) (n := 1) (by first | decide | omega) (by first | decide | omega) ?_
      exact W.aret (v := .ref (σ (1128 + v))) hx hb hr (Or.inl ⟨_, rfl⟩) (Or.inr ⟨_, rfl⟩) (fun tz ht hW => ⟨⟨[], (σ (1128 + v)), rfl, trivial, B1r_at ht (hP.sub [] rfl) (hD.sub [] (by decide) rfl) (Or.inl ⟨rfl, rfl, by omega⟩)⟩, hS.F ht⟩) hS.2.2 dJ24_valueOf_22
set_option maxHeartbeats 4000000 in
theorem j24_intValue {l : Launch} {dC : Nat → ClassId} {dI : Nat → Nat → Nat} {dA : Nat → ClassId} {s0 : State} {b0 : Addr} (Z : Z0 l dC dI dA s0 b0) {σ : Nat → Nat} {dS : va_G} (Y2 : S2 (dC, dI) dS dA σ s0) (ia v : Nat) : Met l yJ24_intValue (ws_ yJ24_intValue cJ24_intValue 1 (some .int)) ({ frames := 1, cells := 0, slots := 0, locals := 60 } : Room) (gP [.ref ia] s0 (fun _ => False) (fun H => va_P (dC, dI) vwCl [(ia, .inr (16, [.int (nI v)]))] H)) (vp_Si (fun r => r = nI v)) 0 0 (fun _ => False) := by
  refine Met.ofW (cc := cJ24_intValue) (maxL := 1) (ret := (some .int)) (by decide) rfl ?_
  intro p e s m args below meth c s₁ B hml hv
  obtain ⟨hav, hG, hP⟩ := hv
  have hx := B.exec
  have hb := B.bytes
  have hr := B.returns
  have hts := atoms_spec (ws := (ws_ yJ24_intValue cJ24_intValue 1 (some .int))) B.pre
  have hts : ∀ w ∈ lw_all, w.before _ s = true := fun w h => hts w (List.mem_cons_of_mem _ h)
  have hown : s.vm.findClass RJ24 = some m.cls := findClass_of_methodNamed B.named
  have hlocks := B.notSynchronized
  have hK := hG.K Z
  have hS : va_S (fun _ => False) s.heap s.heap [] := va_S.rf
  have hl := lv_entry ([.ref ia]) (n := 1) (Nat.le_of_ble_eq_true rfl)
  rw [show entryFrame m args 1 = entryFrame m ([.ref ia] : List Value).toArray 1 from by rw [hav], lg_entry_eq]
  generalize (lg_sl ([.ref ia]) ++ List.replicate (1 - (lg_sl ([.ref ia])).length) Slot.unset).toArray = ls at hl ⊢
  have hl : lv_has ls 1 [(0, .ref ia)] := hl
  generalize hQe : MQ below _ _ s _ _ _ = Q
  change W p l e ({ frames := 1, cells := 0, slots := 0, locals := 60 } : Room) s m args below meth c s.heap [] 0 0 Q (F0 m 0 ls [])
  refine lv_aload_n hx hb dJ24_intValue_0 rfl (lv_at hl 0 rfl) ?_
  refine va_get (D := (dC, dI)) (ci := 16) (v := .int (nI v)) (C := RJ24) (T := TJ24) (N := 1) hx hb hts in_J24 hown hK hP 0 rfl rfl 0 (by decide) (hts _ q1756) (fun _ h9 => h9) rfl dJ24_intValue_1 ?_
  subst hQe
  exact W.iret (v := nI v) hx hb hr (fun tz ht hW => ⟨_, rfl, rfl, ht⟩) hS.2.2 dJ24_intValue_4
