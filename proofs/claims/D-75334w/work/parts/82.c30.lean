theorem OBJ.lt {s0 : State} {H : Heap} {v : Nat} (h : OBJ s0 H v) : v < H.size := by
  obtain ⟨C, hc, h⟩ := h
  exact h.lt
theorem lsE_in {g : Nat → Nat} {c i y : Nat} (h : lsE g c i = some y) : i < c ∧ g i = y := by
  unfold lsE at h
  split at h
  · exact ⟨by assumption, Option.some.inj h⟩
  · cases h
theorem cpy_L {g : Nat → Nat} {c n j : Nat} (hc : c ≤ n) (hn : n < 2 ^ 31) : va_cpy (lsE g c) (fun _ => none) (nI 0).toNatClampNeg (nI 0).toNatClampNeg (nI n).toNatClampNeg j = lsE g c j := by
  rw [nI_clamp (by decide), nI_clamp hn]
  by_cases h : j < n
  · rw [pk_cpy_in (by omega) (by omega)]
    congr 1
    omega
  · rw [pk_cpy_out (by omega)]
    unfold lsE
    rw [if_neg (by omega)]
theorem arr_recv {s : State} {H : Heap} {D : va_G} {cl : List vw_C} {tys : List (ClassId × FieldType)} {ws : va_W} {dA : Nat → ClassId} {a n : Nat} {f : Nat → Option Nat} (hK : va_K D cl (gT dA ++ tys) s) (hP : va_P D cl ws H) (q0 : Nat) (he : ws[q0]? = some (a, .inl (dA 8, n, .inr (.inr (.inr (.inr f)))))) : ∃ cell : Cell, H[a]? = some cell ∧ cell.vm.isStatics = false ∧ s.vm.findClass "[Ljava/lang/Object;" = some cell.cls := by
  refine ⟨_, hP q0 _ he, rfl, ?_⟩
  exact nm_obj (hK.2 8 _ rfl).2
set_option maxHeartbeats 4000000 in
theorem j18_init {l : Launch} {dC : Nat → ClassId} {dI : Nat → Nat → Nat} {dA : Nat → ClassId} {s0 : State} {b0 : Addr} (Z : Z0 l dC dI dA s0 b0) (A : Nat → Prop) (sz : Nat) (hA : ∀ q : Nat, sz ≤ q → A q) {σ : Nat → Nat} {dS : va_G} (Y2 : S2 (dC, dI) dS dA σ s0) (al : Nat) : Met l yJ18_init (ws_ yJ18_init cJ18_init 1 none) ({ frames := 2, cells := 0, slots := 0, locals := 120 } : Room) (gP [.ref al] s0 A (fun H => H.size = sz ∧ va_P (dC, dI) vwCl [(al, .inr (13, [.int 0, .null, .int 0]))] H ∧ va_D A [(al, .inr (13, [.int 0, .null, .int 0]))])) (va_Qv (S := Unit) (fun _ => True) (B1 (dC, dI) A (fun _ => [(al, .inr (13, [.int 0, .null, .int 0]))]) (fun _ _ => True)) A) 0 0 A := by
  refine Met.ofW (cc := cJ18_init) (maxL := 1) (ret := none) (by decide) rfl ?_
  intro p e s m args below meth c s₁ B hml hv
  obtain ⟨hav, hG, hsz, hP, hD⟩ := hv
  have hx := B.exec
  have hb := B.bytes
  have hr := B.returns
  have hts := atoms_spec (ws := (ws_ yJ18_init cJ18_init 1 none)) B.pre
  have hts : ∀ w ∈ lw_all, w.before _ s = true := fun w h => hts w (List.mem_cons_of_mem _ h)
  have hown : s.vm.findClass RJ18 = some m.cls := findClass_of_methodNamed B.named
  have hlocks := B.notSynchronized
  have hK := hG.K Z
  have hin : meth.name = "<init>" := (name_of_methodNamed B.named B.method).1
  subst hsz
  have hS : va_S A s.heap s.heap [] := va_S.rf
  have hl := lv_entry ([.ref al]) (n := 1) (Nat.le_of_ble_eq_true rfl)
  rw [show entryFrame m args 1 = entryFrame m ([.ref al] : List Value).toArray 1 from by rw [hav], lg_entry_eq]
  generalize (lg_sl ([.ref al]) ++ List.replicate (1 - (lg_sl ([.ref al])).length) Slot.unset).toArray = ls at hl ⊢
  have hl : lv_has ls 1 [(0, .ref al)] := hl
  generalize hQe : MQ below _ _ s _ _ _ = Q
  change W p l e ({ frames := 2, cells := 0, slots := 0, locals := 120 } : Room) s m args below meth c s.heap [] 0 0 Q (F0 m 0 ls [])
  refine lv_aload_n hx hb dJ18_init_0 rfl (lv_at hl 0 rfl) ?_
  refine W.objInit hx hb hown (hts _ q1413) (hts _ q151) (hts _ q152) rfl (by rw [hml]; exact hl.1) rfl dJ18_init_1 (Nat.le_of_ble_eq_true rfl) (Nat.le_of_ble_eq_true rfl) ?_
  show W p l e ({ frames := 2, cells := 0, slots := 0, locals := 120 } : Room) s m args below meth c s.heap [] 0 0 Q (F0 m 4 ls [])
  subst hQe
  exact W.vret hx hb hr (fun tz ht hW => ⟨⟨(), rfl, trivial, B1_at ht (hP.sub [0] rfl) (hD.sub [0] (by decide) rfl) trivial⟩, hS.F ht⟩) hS.2.2 dJ18_init_4
set_option maxHeartbeats 4000000 in
theorem j19_init {l : Launch} {dC : Nat → ClassId} {dI : Nat → Nat → Nat} {dA : Nat → ClassId} {s0 : State} {b0 : Addr} (Z : Z0 l dC dI dA s0 b0) (A : Nat → Prop) (sz : Nat) (hA : ∀ q : Nat, sz ≤ q → A q) {σ : Nat → Nat} {dS : va_G} (Y2 : S2 (dC, dI) dS dA σ s0) (al : Nat) : Met l yJ19_init (ws_ yJ19_init cJ19_init 1 none) ({ frames := 3, cells := 0, slots := 0, locals := 180 } : Room) (gP [.ref al] s0 A (fun H => H.size = sz ∧ va_P (dC, dI) vwCl [(al, .inr (13, [.int 0, .null, .int 0]))] H ∧ va_D A [(al, .inr (13, [.int 0, .null, .int 0]))])) (va_Qv (S := Unit) (fun _ => True) (B1 (dC, dI) A (fun _ => [(al, .inr (13, [.int (nI 0), .null, .int 0]))]) (fun _ _ => True)) A) 0 0 A := by
  refine Met.ofW (cc := cJ19_init) (maxL := 1) (ret := none) (by decide) rfl ?_
  intro p e s m args below meth c s₁ B hml hv
  obtain ⟨hav, hG, hsz, hP, hD⟩ := hv
  have hx := B.exec
  have hb := B.bytes
  have hr := B.returns
  have hts := atoms_spec (ws := (ws_ yJ19_init cJ19_init 1 none)) B.pre
  have hts : ∀ w ∈ lw_all, w.before _ s = true := fun w h => hts w (List.mem_cons_of_mem _ h)
  have hown : s.vm.findClass RJ19 = some m.cls := findClass_of_methodNamed B.named
  have hlocks := B.notSynchronized
  have hK := hG.K Z
  have hin : meth.name = "<init>" := (name_of_methodNamed B.named B.method).1
  subst hsz
  have hS : va_S A s.heap s.heap [] := va_S.rf
  have hl := lv_entry ([.ref al]) (n := 1) (Nat.le_of_ble_eq_true rfl)
  rw [show entryFrame m args 1 = entryFrame m ([.ref al] : List Value).toArray 1 from by rw [hav], lg_entry_eq]
  generalize (lg_sl ([.ref al]) ++ List.replicate (1 - (lg_sl ([.ref al])).length) Slot.unset).toArray = ls at hl ⊢
  have hl : lv_has ls 1 [(0, .ref al)] := hl
  generalize hQe : MQ below _ _ s _ _ _ = Q
  change W p l e ({ frames := 3, cells := 0, slots := 0, locals := 180 } : Room) s m args below meth c s.heap [] 0 0 Q (F0 m 0 ls [])
  refine lv_aload_n hx hb dJ19_init_0 rfl (lv_at hl 0 rfl) ?_
  have hF9 := va_free (wc := [(al, .inr (13, [.int 0, .null, .int 0]))]) hD hS (fun q h => hA q h) [0] rfl
  refine c_v (wr := []) (va_runI (As := []) (rest := []) ⟨hx, hb, hml, hown, hts⟩ (j18_init Z (va_A [(al, .inr (13, [.int 0, .null, .int 0]))] s.heap.size) s.heap.size (fun q h => Or.inr h) Y2 al) (cwI 0 hts (lw_meth q1412) rfl rfl rfl (hts _ q132) (hts _ q1410) (hts _ q1411) rfl (by decide +kernel) ⟨Nat.le_of_ble_eq_true rfl, Nat.le_of_ble_eq_true rfl⟩) (gP_S hG hS (fun q _ h => hF9 q h) ⟨rfl, (hP.sub (ws' := [(al, .inr (13, [.int 0, .null, .int 0]))]) [0] rfl), (hD.sub (ws' := [(al, .inr (13, [.int 0, .null, .int 0]))]) [0] (by decide) rfl).self⟩) rfl rfl hl.1 rfl (lv_room (Nat.le_of_ble_eq_true rfl)) dJ19_init_1 ⟨by first | decide | omega | (show _ ≤ (0 : Nat); omega), by first | decide | omega | (show _ ≤ (0 : Nat); omega)⟩) hP hD hS hA [0] [] rfl rfl (by decide) (by decide) (fun u9 H locs hq hX hz hk hP hD hS => ?_)
  have hP : va_P (dC, dI) vwCl [(al, .inr (13, [.int 0, .null, .int 0]))] H := hP
  have hD : va_D A [(al, .inr (13, [.int 0, .null, .int 0]))] := hD
  refine lv_aload_n hx hb dJ19_init_4 rfl (lv_at hl 0 rfl) ?_
  refine lv_iconst (v := nI 0) hx hb dJ19_init_5 (by decide) ?_
  refine va_put (D := (dC, dI)) (ci := 13) (v := .int (nI 0)) (ty := .int) (C := RJ20) (T := TJ20) (N := 3) hx hb hts in_J20 tyJ20 tyJ20_ok nmJ20 hown hK hP hD hS 0 rfl rfl 0 (by decide) (hts _ q1598) (fun _ h9 => h9) rfl (by decide +kernel) rfl rfl (Nat.le_of_ble_eq_true rfl) dJ19_init_6 (fun H locs hP hD hS => ?_)
  have hP : va_P (dC, dI) vwCl [(al, .inr (13, [.int (nI 0), .null, .int 0]))] H := hP
  have hD : va_D A [(al, .inr (13, [.int (nI 0), .null, .int 0]))] := hD
  subst hQe
  exact W.vret hx hb hr (fun tz ht hW => ⟨⟨(), rfl, trivial, B1_at ht (hP.sub [0] rfl) (hD.sub [0] (by decide) rfl) trivial⟩, hS.F ht⟩) hS.2.2 dJ19_init_9
set_option maxHeartbeats 4000000 in
theorem j20_init {l : Launch} {dC : Nat → ClassId} {dI : Nat → Nat → Nat} {dA : Nat → ClassId} {s0 : State} {b0 : Addr} (Z : Z0 l dC dI dA s0 b0) (A : Nat → Prop) (sz : Nat) (hA : ∀ q : Nat, sz ≤ q → A q) {σ : Nat → Nat} {dS : va_G} (Y2 : S2 (dC, dI) dS dA σ s0) (al : Nat) : Met l yJ20_init (ws_ yJ20_init cJ20_init 2 none) ({ frames := 4, cells := 1, slots := 2, locals := 240 } : Room) (gP [.ref al, .int (nI 2)] s0 A (fun H => H.size = sz ∧ va_P (dC, dI) vwCl [(al, .inr (13, [.int 0, .null, .int 0]))] H ∧ va_D A [(al, .inr (13, [.int 0, .null, .int 0]))])) (va_Qv (S := Nat) (fun _ => True) (B1 (dC, dI) A (fun u => [(al, .inr (13, [.int (nI 0), .ref u, .int 0])), (u, .inl (dA 8, 2, .inr (.inr (.inr (.inr (fun _ => none))))))]) (fun _ _ => True)) A) 1 2 A := by
  refine Met.ofW (cc := cJ20_init) (maxL := 2) (ret := none) (by decide) rfl ?_
  intro p e s m args below meth c s₁ B hml hv
  obtain ⟨hav, hG, hsz, hP, hD⟩ := hv
  have hx := B.exec
  have hb := B.bytes
  have hr := B.returns
  have hts := atoms_spec (ws := (ws_ yJ20_init cJ20_init 2 none)) B.pre
  have hts : ∀ w ∈ lw_all, w.before _ s = true := fun w h => hts w (List.mem_cons_of_mem _ h)
  have hown : s.vm.findClass RJ20 = some m.cls := findClass_of_methodNamed B.named
  have hlocks := B.notSynchronized
  have hK := hG.K Z
  have hin : meth.name = "<init>" := (name_of_methodNamed B.named B.method).1
  subst hsz
  have hS : va_S A s.heap s.heap [] := va_S.rf
  have hl := lv_entry ([.ref al, .int (nI 2)]) (n := 2) (Nat.le_of_ble_eq_true rfl)
  rw [show entryFrame m args 2 = entryFrame m ([.ref al, .int (nI 2)] : List Value).toArray 2 from by rw [hav], lg_entry_eq]
  generalize (lg_sl ([.ref al, .int (nI 2)]) ++ List.replicate (2 - (lg_sl ([.ref al, .int (nI 2)])).length) Slot.unset).toArray = ls at hl ⊢
  have hl : lv_has ls 2 [(0, .ref al), (1, .int (nI 2))] := hl
  generalize hQe : MQ below _ _ s _ _ _ = Q
  change W p l e ({ frames := 4, cells := 1, slots := 2, locals := 240 } : Room) s m args below meth c s.heap [] 0 0 Q (F0 m 0 ls [])
  refine lv_aload_n hx hb dJ20_init_0 rfl (lv_at hl 0 rfl) ?_
  have hF9 := va_free (wc := [(al, .inr (13, [.int 0, .null, .int 0]))]) hD hS (fun q h => hA q h) [0] rfl
  refine c_v (wr := []) (va_runI (As := []) (rest := []) ⟨hx, hb, hml, hown, hts⟩ (j19_init Z (va_A [(al, .inr (13, [.int 0, .null, .int 0]))] s.heap.size) s.heap.size (fun q h => Or.inr h) Y2 al) (cwI 0 hts (lw_meth q1409) rfl rfl rfl (hts _ q133) (hts _ q1407) (hts _ q1408) rfl (by decide +kernel) ⟨Nat.le_of_ble_eq_true rfl, Nat.le_of_ble_eq_true rfl⟩) (gP_S hG hS (fun q _ h => hF9 q h) ⟨rfl, (hP.sub (ws' := [(al, .inr (13, [.int 0, .null, .int 0]))]) [0] rfl), (hD.sub (ws' := [(al, .inr (13, [.int 0, .null, .int 0]))]) [0] (by decide) rfl).self⟩) rfl rfl hl.1 rfl (lv_room (Nat.le_of_ble_eq_true rfl)) dJ20_init_1 ⟨by first | decide | omega | (show _ ≤ (1 : Nat); omega), by first | decide | omega | (show _ ≤ (2 : Nat); omega)⟩) hP hD hS hA [0] [] rfl rfl (by decide) (by decide) (fun u9 H locs hq hX hz hk hP hD hS => ?_)
  have hP : va_P (dC, dI) vwCl [(al, .inr (13, [.int (nI 0), .null, .int 0]))] H := hP
  have hD : va_D A [(al, .inr (13, [.int (nI 0), .null, .int 0]))] := hD
  refine lv_iload_n hx hb dJ20_init_4 rfl (lv_at hl 1 rfl) ?_
  refine lv_if_le (tgt := 19) hx hb dJ20_init_5 (by decide) (fun c_5 => ?_) (fun c_5 => ?_)
  · exact absurd c_5 (by decide)
  refine lv_aload_n hx hb dJ20_init_8 rfl (lv_at hl 0 rfl) ?_
  refine lv_iload_n hx hb dJ20_init_9 rfl (lv_at hl 1 rfl) ?_
  refine a_newq (N' := 2) hx hb hown (hts _ q1414) (aoZ Z hG q1415) hK hP hD hS hA 8 rfl (by decide) (by decide) (by decide) (by first | decide | omega) (by first | decide | omega) dJ20_init_10 (fun na_1 H locs hP hD hS => ?_)
  have hP : va_P (dC, dI) vwCl [(al, .inr (13, [.int (nI 0), .null, .int 0])), (na_1, .inl (dA 8, 2, .inr (.inr (.inr (.inr (fun _ => none))))))] H := hP
  have hD : va_D A [(al, .inr (13, [.int (nI 0), .null, .int 0])), (na_1, .inl (dA 8, 2, .inr (.inr (.inr (.inr (fun _ => none))))))] := hD
  refine va_put (D := (dC, dI)) (ci := 13) (v := .ref na_1) (ty := (tyJ20 1)) (C := RJ20) (T := TJ20) (N := 3) hx hb hts in_J20 tyJ20 tyJ20_ok nmJ20 hown hK hP hD hS 0 rfl rfl 1 (by decide) (hts _ q1594) (fun _ h9 => h9) rfl (by decide +kernel) rfl rfl (Nat.le_of_ble_eq_true rfl) dJ20_init_13 (fun H locs hP hD hS => ?_)
  have hP : va_P (dC, dI) vwCl [(al, .inr (13, [.int (nI 0), .ref na_1, .int 0])), (na_1, .inl (dA 8, 2, .inr (.inr (.inr (.inr (fun _ => none))))))] H := hP
  have hD : va_D A [(al, .inr (13, [.int (nI 0), .ref na_1, .int 0])), (na_1, .inl (dA 8, 2, .inr (.inr (.inr (.inr (fun _ => none))))))] := hD
  refine lv_goto (tgt := 60) hx hb dJ20_init_16 (by decide) ?_
  subst hQe
  refine W.widen (k := 1) (n := 2) (by first | decide | omega) (by first | decide | omega) ?_
  exact W.vret hx hb hr (fun tz ht hW => ⟨⟨na_1, rfl, trivial, B1_at ht (hP.sub [0, 1] rfl) (hD.sub [0, 1] (by decide) rfl) trivial⟩, hS.F ht⟩) hS.2.2 dJ20_init_60
set_option maxHeartbeats 4000000 in
theorem j22_copyOf3 {l : Launch} {dC : Nat → ClassId} {dI : Nat → Nat → Nat} {dA : Nat → ClassId} {s0 : State} {b0 : Addr} (Z : Z0 l dC dI dA s0 b0) (A : Nat → Prop) (sz : Nat) (hA : ∀ q : Nat, sz ≤ q → A q) {σ : Nat → Nat} {dS : va_G} (Y2 : S2 (dC, dI) dS dA σ s0) (ed bm bk c9 : Nat) (g : Nat → Nat) (hm : bm < bk) (hk : bk ≤ 5000) (hc9 : c9 ≤ bm) (hnA : ∀ i, i < c9 → ¬ A (g i)) : Met l yJ22_copyOf_3 (ws_ yJ22_copyOf_3 cJ22_copyOf_3 4 (some (.array (.object "java/lang/Object")))) ({ frames := 1, cells := 1, slots := bk, locals := 60 } : Room) (gP [.ref ed, .int (nI bk), .ref (σ 64)] s0 A (fun H => H.size = sz ∧ va_P (dC, dI) vwCl [(ed, .inl (dA 8, bm, .inr (.inr (.inr (.inr (lsE g c9))))))] H ∧ va_D A [(ed, .inl (dA 8, bm, .inr (.inr (.inr (.inr (lsE g c9))))))] ∧ (∀ i, i < c9 → OBJ s0 H (g i)))) (va_Qr (S := Unit) (fun _ => True) (B1r (dC, dI) A (fun _ q => [(ed, .inl (dA 8, bm, .inr (.inr (.inr (.inr (lsE g c9)))))), (q, .inl (dA 8, bk, .inr (.inr (.inr (.inr (lsE g c9))))))]) (fun _ _ _ => True)) A) 1 bk A := by
  refine Met.ofW (cc := cJ22_copyOf_3) (maxL := 4) (ret := (some (.array (.object "java/lang/Object")))) (by decide) rfl ?_
  intro p e s m args below meth c s₁ B hml hv
  obtain ⟨hav, hG, hsz, hP, hD, hOB⟩ := hv
  have hx := B.exec
  have hb := B.bytes
  have hr := B.returns
  have hts := atoms_spec (ws := (ws_ yJ22_copyOf_3 cJ22_copyOf_3 4 (some (.array (.object "java/lang/Object"))))) B.pre
  have hts : ∀ w ∈ lw_all, w.before _ s = true := fun w h => hts w (List.mem_cons_of_mem _ h)
  have hown : s.vm.findClass RJ22 = some m.cls := findClass_of_methodNamed B.named
  have hlocks := B.notSynchronized
  have hK := hG.K Z
  subst hsz
  have hS : va_S A s.heap s.heap [] := va_S.rf
  have hl := lv_entry ([.ref ed, .int (nI bk), .ref (σ 64)]) (n := 4) (Nat.le_of_ble_eq_true rfl)
  rw [show entryFrame m args 4 = entryFrame m ([.ref ed, .int (nI bk), .ref (σ 64)] : List Value).toArray 4 from by rw [hav], lg_entry_eq]
  generalize (lg_sl ([.ref ed, .int (nI bk), .ref (σ 64)]) ++ List.replicate (4 - (lg_sl ([.ref ed, .int (nI bk), .ref (σ 64)])).length) Slot.unset).toArray = ls at hl ⊢
  have hl : lv_has ls 4 [(0, .ref ed), (1, .int (nI bk)), (2, .ref (σ 64))] := hl
  generalize hQe : MQ below _ _ s _ _ _ = Q
  change W p l e ({ frames := 1, cells := 1, slots := bk, locals := 60 } : Room) s m args below meth c s.heap [] 0 0 Q (F0 m 0 ls [])
  refine lv_aload_n hx hb dJ22_copyOf_3_0 rfl (lv_at hl 2 rfl) ?_
  refine va_ldcM hx hb hown (hts _ q1705) (va_Mi.moved hG.1.alike Y2.2.2.2.2.2.1.1) dJ22_copyOf_3_1 ?_
  refine lv_acmp_ne (rx := some (σ 64)) (ry := some (σ 64)) (tgt := 13) hx hb dJ22_copyOf_3_3 (by decide) (fun c_3 => absurd rfl c_3) (fun _ => ?_)
  refine lv_iload_n hx hb dJ22_copyOf_3_6 rfl (lv_at hl 1 rfl) ?_
  refine a_newq (N' := bk) hx hb hown (hts _ q1706) (aoZ Z hG q1415) hK hP hD hS hA 8 rfl (nI_pos (by omega)) (nI_clamp (by omega)) (by omega) (by first | decide | omega | (show _ ≤ (1 : Nat); omega)) (by first | decide | omega | (show _ ≤ (bk : Nat); omega)) dJ22_copyOf_3_7 (fun na_1 H locs hP hD hS => ?_)
  have hP : va_P (dC, dI) vwCl [(ed, .inl (dA 8, bm, .inr (.inr (.inr (.inr (lsE g c9)))))), (na_1, .inl (dA 8, bk, .inr (.inr (.inr (.inr (fun _ => none))))))] H := hP
  have hD : va_D A [(ed, .inl (dA 8, bm, .inr (.inr (.inr (.inr (lsE g c9)))))), (na_1, .inl (dA 8, bk, .inr (.inr (.inr (.inr (fun _ => none))))))] := hD
  refine lv_goto (tgt := 24) hx hb dJ22_copyOf_3_10 (by decide) ?_
  refine lv_astore_n (lv' := [(3, .ref na_1), (0, .ref ed), (1, .int (nI bk)), (2, .ref (σ 64))]) hx hb dJ22_copyOf_3_24 rfl hl (by decide) rfl (fun ls hl => ?_)
  refine lv_aload_n hx hb dJ22_copyOf_3_25 rfl (lv_at hl 1 rfl) ?_
  refine lv_iconst (v := nI 0) hx hb dJ22_copyOf_3_26 (by decide) ?_
  refine lv_aload_n hx hb dJ22_copyOf_3_27 rfl (lv_at hl 0 rfl) ?_
  refine lv_iconst (v := nI 0) hx hb dJ22_copyOf_3_28 (by decide) ?_
  refine lv_aload_n hx hb dJ22_copyOf_3_29 rfl (lv_at hl 1 rfl) ?_
  refine va_alen (v := nI bm) hx hb hK hP 0 8 rfl rfl rfl dJ22_copyOf_3_30 ?_
  refine lv_iload_n hx hb dJ22_copyOf_3_31 rfl (lv_at hl 2 rfl) ?_
  refine va_mmin hx hb (hml.trans hl.1.symm) hown (hts _ q1458) (hts _ q1232) (hts _ q115) (hts _ q1233) (Nat.le_of_ble_eq_true rfl) (Nat.le_of_ble_eq_true rfl) (by first | exact Nat.zero_le _ | decide | omega | (show _ ≤ (1 : Nat); omega)) (by first | exact Nat.zero_le _ | decide | omega | (show _ ≤ (bk : Nat); omega)) dJ22_copyOf_3_32 ?_
  refine e_i (y := nI bm) (if_neg (nI_nlt (by omega) (by omega))) ?_
  refine va_copyM hx hb (hml.trans hl.1.symm) hown (hts _ q1459) (hts _ q1461) (hts _ q1460) (hts _ q137) hK hP hD hS 0 1 8 8 rfl rfl rfl rfl (nI_pos (by omega)) (nI_pos (by omega)) (nI_pos (by omega)) (by rw [nI_clamp (by omega), nI_clamp (by omega)]; omega) (by rw [nI_clamp (by omega), nI_clamp (by omega)]; omega) (fun i hi y hy => ?_) (Nat.le_of_ble_eq_true rfl) (Nat.le_of_ble_eq_true rfl) dJ22_copyOf_3_35 (fun H locs hP hD hS => ?_)
  · have hy2 : lsE g c9 ((nI 0).toNatClampNeg + i) = some y := hy
    obtain ⟨h8, rfl⟩ := lsE_in hy2
    exact ((hOB _ h8).to (hS.2.1 _ (hOB _ h8).lt (hnA _ h8))).any Z hG
  have hP : va_P (dC, dI) vwCl [(ed, .inl (dA 8, bm, .inr (.inr (.inr (.inr (lsE g c9)))))), (na_1, .inl (dA 8, bk, .inr (.inr (.inr (.inr (va_cpy (lsE g c9) (fun _ => none) ((nI 0).toNatClampNeg) ((nI 0).toNatClampNeg) ((nI bm).toNatClampNeg)))))))] H := hP
  have hD : va_D A [(ed, .inl (dA 8, bm, .inr (.inr (.inr (.inr (lsE g c9)))))), (na_1, .inl (dA 8, bk, .inr (.inr (.inr (.inr (va_cpy (lsE g c9) (fun _ => none) ((nI 0).toNatClampNeg) ((nI 0).toNatClampNeg) ((nI bm).toNatClampNeg)))))))] := hD
  have hP := P_R hP 1 (lsE g c9) rfl (fun j hj => cpy_L hc9 (by omega))
  have hD := va_D.set (e := .inl (dA 8, bk, .inr (.inr (.inr (.inr (lsE g c9)))))) hD (p := 1) rfl
  have hP : va_P (dC, dI) vwCl [(ed, .inl (dA 8, bm, .inr (.inr (.inr (.inr (lsE g c9)))))), (na_1, .inl (dA 8, bk, .inr (.inr (.inr (.inr (lsE g c9))))))] H := hP
  have hD : va_D A [(ed, .inl (dA 8, bm, .inr (.inr (.inr (.inr (lsE g c9)))))), (na_1, .inl (dA 8, bk, .inr (.inr (.inr (.inr (lsE g c9))))))] := hD
  refine lv_aload_n hx hb dJ22_copyOf_3_38 rfl (lv_at hl 0 rfl) ?_
  subst hQe
  refine W.widen (k := 1) (n := bk) (by first | decide | omega) (by first | decide | omega) ?_
  exact W.aret (v := .ref na_1) hx hb hr (Or.inr ⟨_, rfl⟩) (Or.inr ⟨_, rfl⟩) (fun tz ht hW => ⟨⟨(), na_1, rfl, trivial, B1r_at ht (hP.sub [0, 1] rfl) (hD.sub [0, 1] (by decide) rfl) trivial⟩, hS.F ht⟩) hS.2.2 dJ22_copyOf_3_39
set_option maxHeartbeats 4000000 in
theorem j22_copyOf2 {l : Launch} {dC : Nat → ClassId} {dI : Nat → Nat → Nat} {dA : Nat → ClassId} {s0 : State} {b0 : Addr} (Z : Z0 l dC dI dA s0 b0) (A : Nat → Prop) (sz : Nat) (hA : ∀ q : Nat, sz ≤ q → A q) {σ : Nat → Nat} {dS : va_G} (Y2 : S2 (dC, dI) dS dA σ s0) (ed bm bk c9 : Nat) (g : Nat → Nat) (hm : bm < bk) (hk : bk ≤ 5000) (hc9 : c9 ≤ bm) (hnA : ∀ i, i < c9 → ¬ A (g i)) : Met l yJ22_copyOf_2 (ws_ yJ22_copyOf_2 cJ22_copyOf_2 2 (some (.array (.object "java/lang/Object")))) ({ frames := 2, cells := 1, slots := bk, locals := 120 } : Room) (gP [.ref ed, .int (nI bk)] s0 A (fun H => H.size = sz ∧ va_P (dC, dI) vwCl [(ed, .inl (dA 8, bm, .inr (.inr (.inr (.inr (lsE g c9))))))] H ∧ va_D A [(ed, .inl (dA 8, bm, .inr (.inr (.inr (.inr (lsE g c9))))))] ∧ (∀ i, i < c9 → OBJ s0 H (g i)))) (va_Qr (S := Unit) (fun _ => True) (B1r (dC, dI) A (fun _ q => [(ed, .inl (dA 8, bm, .inr (.inr (.inr (.inr (lsE g c9)))))), (q, .inl (dA 8, bk, .inr (.inr (.inr (.inr (lsE g c9))))))]) (fun _ _ _ => True)) A) 1 bk A := by
  refine Met.ofW (cc := cJ22_copyOf_2) (maxL := 2) (ret := (some (.array (.object "java/lang/Object")))) (by decide) rfl ?_
  intro p e s m args below meth c s₁ B hml hv
  obtain ⟨hav, hG, hsz, hP, hD, hOB⟩ := hv
  have hx := B.exec
  have hb := B.bytes
  have hr := B.returns
  have hts := atoms_spec (ws := (ws_ yJ22_copyOf_2 cJ22_copyOf_2 2 (some (.array (.object "java/lang/Object"))))) B.pre
  have hts : ∀ w ∈ lw_all, w.before _ s = true := fun w h => hts w (List.mem_cons_of_mem _ h)
  have hown : s.vm.findClass RJ22 = some m.cls := findClass_of_methodNamed B.named
  have hlocks := B.notSynchronized
  have hK := hG.K Z
  subst hsz
  have hS : va_S A s.heap s.heap [] := va_S.rf
  have hl := lv_entry ([.ref ed, .int (nI bk)]) (n := 2) (Nat.le_of_ble_eq_true rfl)
  rw [show entryFrame m args 2 = entryFrame m ([.ref ed, .int (nI bk)] : List Value).toArray 2 from by rw [hav], lg_entry_eq]
  generalize (lg_sl ([.ref ed, .int (nI bk)]) ++ List.replicate (2 - (lg_sl ([.ref ed, .int (nI bk)])).length) Slot.unset).toArray = ls at hl ⊢
  have hl : lv_has ls 2 [(0, .ref ed), (1, .int (nI bk))] := hl
  generalize hQe : MQ below _ _ s _ _ _ = Q
  change W p l e ({ frames := 2, cells := 1, slots := bk, locals := 120 } : Room) s m args below meth c s.heap [] 0 0 Q (F0 m 0 ls [])
  refine lv_aload_n hx hb dJ22_copyOf_2_0 rfl (lv_at hl 0 rfl) ?_
  refine lv_iload_n hx hb dJ22_copyOf_2_1 rfl (lv_at hl 1 rfl) ?_
  refine lv_aload_n hx hb dJ22_copyOf_2_2 rfl (lv_at hl 0 rfl) ?_
  refine va_getC hx hb (hml.trans hl.1.symm) (C := "[Ljava/lang/Object;") hown (hts _ q1648) ((va_Dc.moved hG.1.alike Y2.2.2.2.2.2.1.2).use) (hts _ q2625) (hts _ q1649) (hts _ q1701) (va_Mi.moved hG.1.alike Y2.2.2.2.2.2.1.1) (arr_recv hK hP 0 rfl) (Nat.le_of_ble_eq_true rfl) (Nat.le_of_ble_eq_true rfl) dJ22_copyOf_2_3 ?_
  have hF9 := va_free (wc := [(ed, .inl (dA 8, bm, .inr (.inr (.inr (.inr (lsE g c9))))))]) hD hS (fun q h => hA q h) [0] rfl
  refine c_r (wr := []) (va_runS (As := [.ref ed, .int (nI bk), .ref (σ 64)]) (rest := []) ⟨hx, hb, hml, hown, hts⟩ (j22_copyOf3 Z (va_A [(ed, .inl (dA 8, bm, .inr (.inr (.inr (.inr (lsE g c9))))))] s.heap.size) s.heap.size (fun q h => Or.inr h) Y2 ed bm bk c9 g (by omega) (by omega) (by omega) (fun i hi h => hnA i hi (hF9 _ h))) (va_cwS 3 hts (lw_S q1702 q1703 q136 q1704) rfl rfl rfl (by decide +kernel) ⟨Nat.le_of_ble_eq_true rfl, Nat.le_of_ble_eq_true rfl⟩) (gP_S hG hS (fun q _ h => hF9 q h) ⟨rfl, (hP.sub (ws' := [(ed, .inl (dA 8, bm, .inr (.inr (.inr (.inr (lsE g c9))))))]) [0] rfl), (hD.sub (ws' := [(ed, .inl (dA 8, bm, .inr (.inr (.inr (.inr (lsE g c9))))))]) [0] (by decide) rfl).self, (fun i hi => (hOB i hi).to (hS.2.1 _ (hOB i hi).lt (hnA i hi)))⟩) rfl rfl hl.1 rfl (lv_room (Nat.le_of_ble_eq_true rfl)) dJ22_copyOf_2_6 ⟨by first | decide | omega | (show _ ≤ (1 : Nat); omega), by first | decide | omega | (show _ ≤ (bk : Nat); omega)⟩) hP hD hS hA [0] [] rfl rfl (by decide) (by decide) (fun u9 ra9 H locs hq hX hz hk hP hD hS => ?_)
  obtain ⟨ra_1, rfl⟩ : ∃ z, z = ra9 := ⟨_, rfl⟩
  have hP : va_P (dC, dI) vwCl [(ed, .inl (dA 8, bm, .inr (.inr (.inr (.inr (lsE g c9)))))), (ra_1, .inl (dA 8, bk, .inr (.inr (.inr (.inr (lsE g c9))))))] H := hP
  have hD : va_D A [(ed, .inl (dA 8, bm, .inr (.inr (.inr (.inr (lsE g c9)))))), (ra_1, .inl (dA 8, bk, .inr (.inr (.inr (.inr (lsE g c9))))))] := hD
  subst hQe
  refine W.widen (k := 1) (n := bk) (by first | decide | omega) (by first | decide | omega) ?_
  exact W.aret (v := .ref ra_1) hx hb hr (Or.inr ⟨_, rfl⟩) (Or.inr ⟨_, rfl⟩) (fun tz ht hW => ⟨⟨(), ra_1, rfl, trivial, B1r_at ht (hP.sub [0, 1] rfl) (hD.sub [0, 1] (by decide) rfl) trivial⟩, hS.F ht⟩) hS.2.2 dJ22_copyOf_2_9
set_option maxHeartbeats 4000000 in
theorem j20_grow1 {l : Launch} {dC : Nat → ClassId} {dI : Nat → Nat → Nat} {dA : Nat → ClassId} {s0 : State} {b0 : Addr} (Z : Z0 l dC dI dA s0 b0) (A : Nat → Prop) (sz : Nat) (hA : ∀ q : Nat, sz ≤ q → A q) {σ : Nat → Nat} {dS : va_G} (Y2 : S2 (dC, dI) dS dA σ s0) (al ed bm : Nat) (md : Int32) (g : Nat → Nat) (c9 : Nat) (hcm : c9 = bm) (h2 : 2 ≤ bm) (h3 : bm ≤ 3000) (hnA : ∀ i, i < c9 → ¬ A (g i)) : Met l yJ20_grow_2 (ws_ yJ20_grow_2 cJ20_grow_2 4 (some (.array (.object "java/lang/Object")))) ({ frames := 4, cells := 1, slots := (bm + bm / 2), locals := 240 } : Room) (gP [.ref al, .int (nI (c9 + 1))] s0 A (fun H => H.size = sz ∧ va_P (dC, dI) vwCl [(al, .inr (13, [.int md, .ref ed, .int (nI c9)])), (ed, .inl (dA 8, bm, .inr (.inr (.inr (.inr (lsE g c9))))))] H ∧ va_D A [(al, .inr (13, [.int md, .ref ed, .int (nI c9)])), (ed, .inl (dA 8, bm, .inr (.inr (.inr (.inr (lsE g c9))))))] ∧ (∀ i, i < c9 → OBJ s0 H (g i)))) (va_Qr (S := Unit) (fun _ => True) (B1r (dC, dI) A (fun _ q => [(al, .inr (13, [.int md, .ref q, .int (nI c9)])), (q, .inl (dA 8, (bm + bm / 2), .inr (.inr (.inr (.inr (lsE g c9))))))]) (fun _ _ _ => True)) A) 1 (bm + bm / 2) A := by
  refine Met.ofW (cc := cJ20_grow_2) (maxL := 4) (ret := (some (.array (.object "java/lang/Object")))) (by decide) rfl ?_
  intro p e s m args below meth c s₁ B hml hv
  obtain ⟨hav, hG, hsz, hP, hD, hOB⟩ := hv
  have hx := B.exec
  have hb := B.bytes
  have hr := B.returns
  have hts := atoms_spec (ws := (ws_ yJ20_grow_2 cJ20_grow_2 4 (some (.array (.object "java/lang/Object"))))) B.pre
  have hts : ∀ w ∈ lw_all, w.before _ s = true := fun w h => hts w (List.mem_cons_of_mem _ h)
  have hown : s.vm.findClass RJ20 = some m.cls := findClass_of_methodNamed B.named
  have hlocks := B.notSynchronized
  have hK := hG.K Z
  subst hsz
  have hS : va_S A s.heap s.heap [] := va_S.rf
  have hl := lv_entry ([.ref al, .int (nI (c9 + 1))]) (n := 4) (Nat.le_of_ble_eq_true rfl)
  rw [show entryFrame m args 4 = entryFrame m ([.ref al, .int (nI (c9 + 1))] : List Value).toArray 4 from by rw [hav], lg_entry_eq]
  generalize (lg_sl ([.ref al, .int (nI (c9 + 1))]) ++ List.replicate (4 - (lg_sl ([.ref al, .int (nI (c9 + 1))])).length) Slot.unset).toArray = ls at hl ⊢
  have hl : lv_has ls 4 [(0, .ref al), (1, .int (nI (c9 + 1)))] := hl
  generalize hQe : MQ below _ _ s _ _ _ = Q
  change W p l e ({ frames := 4, cells := 1, slots := (bm + bm / 2), locals := 240 } : Room) s m args below meth c s.heap [] 0 0 Q (F0 m 0 ls [])
  refine lv_aload_n hx hb dJ20_grow_2_0 rfl (lv_at hl 0 rfl) ?_
  refine va_get (D := (dC, dI)) (ci := 13) (v := .ref ed) (C := RJ20) (T := TJ20) (N := 3) hx hb hts in_J20 hown hK hP 0 rfl rfl 1 (by decide) (hts _ q1594) (fun _ h9 => h9) rfl dJ20_grow_2_1 ?_
  refine va_alen (v := nI bm) hx hb hK hP 1 8 rfl rfl rfl dJ20_grow_2_4 ?_
  refine lv_istore_n (lv' := [(2, .int (nI bm)), (0, .ref al), (1, .int (nI (c9 + 1)))]) hx hb dJ20_grow_2_5 rfl hl (by decide) rfl (fun ls hl => ?_)
  refine lv_iload_n hx hb dJ20_grow_2_6 rfl (lv_at hl 0 rfl) ?_
  refine lv_if_gt (tgt := 20) hx hb dJ20_grow_2_7 (by decide) (fun c_7 => ?_) (fun c_7 => ?_)
  · have c_7 : 0 < bm := (nI_ltI (a := 0) (b := bm) (by omega) (by omega)).mp c_7
    refine lv_iload_n hx hb dJ20_grow_2_20 rfl (lv_at hl 0 rfl) ?_
    refine lv_iload_n hx hb dJ20_grow_2_21 rfl (lv_at hl 2 rfl) ?_
    refine lv_iload_n hx hb dJ20_grow_2_22 rfl (lv_at hl 0 rfl) ?_
    refine lv_isub hx hb dJ20_grow_2_23 ?_
    refine e_i (y := nI ((c9 + 1) - bm)) (pk_sub (by omega)) ?_
    refine lv_iload_n hx hb dJ20_grow_2_24 rfl (lv_at hl 0 rfl) ?_
    refine lv_iconst (v := nI 1) hx hb dJ20_grow_2_25 (by decide) ?_
    refine lv_ishr hx hb dJ20_grow_2_26 ?_
    refine e_i (y := nI (bm / 2 ^ 1)) (n_shr (by omega) (by omega)) ?_
    refine e_i (y := nI (bm / 2)) (n_eq (by rw [Nat.pow_one])) ?_
    refine s_i (va_runS (As := [.int (nI bm), .int (nI ((c9 + 1) - bm)), .int (nI (bm / 2))]) (rest := []) ⟨hx, hb, hml, hown, hts⟩ (j21_newLength Z Y2 bm ((c9 + 1) - bm) (bm / 2) (by omega) (by omega) (by omega) (by omega)) (va_cwS 3 hts (lw_S q1644 q1442 q135 q1443) rfl rfl rfl (by decide +kernel) ⟨Nat.le_of_ble_eq_true rfl, Nat.le_of_ble_eq_true rfl⟩) (gP_S hG hS (fun q _ h => h.elim) trivial) rfl rfl hl.1 rfl (lv_room (Nat.le_of_ble_eq_true rfl)) dJ20_grow_2_27 ⟨by first | decide | omega | (show _ ≤ (1 : Nat); omega), by first | decide | omega | (show _ ≤ ((bm + bm / 2) : Nat); omega)⟩) ?_
    refine lv_istore_n (lv' := [(3, .int (nI (bm + (bm / 2)))), (2, .int (nI bm)), (0, .ref al), (1, .int (nI (c9 + 1)))]) hx hb dJ20_grow_2_30 rfl hl (by decide) rfl (fun ls hl => ?_)
    refine lv_aload_n hx hb dJ20_grow_2_31 rfl (lv_at hl 2 rfl) ?_
    refine lv_aload_n hx hb dJ20_grow_2_32 rfl (lv_at hl 2 rfl) ?_
    refine va_get (D := (dC, dI)) (ci := 13) (v := .ref ed) (C := RJ20) (T := TJ20) (N := 3) hx hb hts in_J20 hown hK hP 0 rfl rfl 1 (by decide) (hts _ q1594) (fun _ h9 => h9) rfl dJ20_grow_2_33 ?_
    refine lv_iload_n hx hb dJ20_grow_2_36 rfl (lv_at hl 0 rfl) ?_
    have hF9 := va_free (wc := [(ed, .inl (dA 8, bm, .inr (.inr (.inr (.inr (lsE g c9))))))]) hD hS (fun q h => hA q h) [1] rfl
    refine c_r (wr := [(al, .inr (13, [.int md, .ref ed, .int (nI c9)]))]) (va_runS (As := [.ref ed, .int (nI (bm + (bm / 2)))]) (rest := [.ref al]) ⟨hx, hb, hml, hown, hts⟩ (j22_copyOf2 Z (va_A [(ed, .inl (dA 8, bm, .inr (.inr (.inr (.inr (lsE g c9))))))] s.heap.size) s.heap.size (fun q h => Or.inr h) Y2 ed bm (bm + (bm / 2)) c9 g (by omega) (by omega) (by omega) (fun i hi h => hnA i hi (hF9 _ h))) (va_cwS 2 hts (lw_S q1645 q1646 q136 q1647) rfl rfl rfl (by decide +kernel) ⟨Nat.le_of_ble_eq_true rfl, Nat.le_of_ble_eq_true rfl⟩) (gP_S hG hS (fun q _ h => hF9 q h) ⟨rfl, (hP.sub (ws' := [(ed, .inl (dA 8, bm, .inr (.inr (.inr (.inr (lsE g c9))))))]) [1] rfl), (hD.sub (ws' := [(ed, .inl (dA 8, bm, .inr (.inr (.inr (.inr (lsE g c9))))))]) [1] (by decide) rfl).self, (fun i hi => (hOB i hi).to (hS.2.1 _ (hOB i hi).lt (hnA i hi)))⟩) rfl rfl hl.1 rfl (lv_room (Nat.le_of_ble_eq_true rfl)) dJ20_grow_2_37 ⟨by first | decide | omega | (show _ ≤ (1 : Nat); omega), by first | decide | omega | (show _ ≤ ((bm + bm / 2) : Nat); omega)⟩) hP hD hS hA [1] [0] rfl rfl (by decide) (by decide) (fun u9 ra9 H locs hq hX hz hk hP hD hS => ?_)
    obtain ⟨ra_1, rfl⟩ : ∃ z, z = ra9 := ⟨_, rfl⟩
    have hP : va_P (dC, dI) vwCl [(al, .inr (13, [.int md, .ref ed, .int (nI c9)])), (ed, .inl (dA 8, bm, .inr (.inr (.inr (.inr (lsE g c9)))))), (ra_1, .inl (dA 8, (bm + (bm / 2)), .inr (.inr (.inr (.inr (lsE g c9))))))] H := hP
    have hD : va_D A [(al, .inr (13, [.int md, .ref ed, .int (nI c9)])), (ed, .inl (dA 8, bm, .inr (.inr (.inr (.inr (lsE g c9)))))), (ra_1, .inl (dA 8, (bm + (bm / 2)), .inr (.inr (.inr (.inr (lsE g c9))))))] := hD
    refine lv_dup_x1 hx hb dJ20_grow_2_40 rfl rfl ?_
    refine va_put (D := (dC, dI)) (ci := 13) (v := .ref ra_1) (ty := (tyJ20 1)) (C := RJ20) (T := TJ20) (N := 3) hx hb hts in_J20 tyJ20 tyJ20_ok nmJ20 hown hK hP hD hS 0 rfl rfl 1 (by decide) (hts _ q1594) (fun _ h9 => h9) rfl (by decide +kernel) rfl rfl (Nat.le_of_ble_eq_true rfl) dJ20_grow_2_41 (fun H locs hP hD hS => ?_)
    have hP : va_P (dC, dI) vwCl [(al, .inr (13, [.int md, .ref ra_1, .int (nI c9)])), (ed, .inl (dA 8, bm, .inr (.inr (.inr (.inr (lsE g c9)))))), (ra_1, .inl (dA 8, (bm + (bm / 2)), .inr (.inr (.inr (.inr (lsE g c9))))))] H := hP
    have hD : va_D A [(al, .inr (13, [.int md, .ref ra_1, .int (nI c9)])), (ed, .inl (dA 8, bm, .inr (.inr (.inr (.inr (lsE g c9)))))), (ra_1, .inl (dA 8, (bm + (bm / 2)), .inr (.inr (.inr (.inr (lsE g c9))))))] := hD
    subst hQe
    refine W.widen (k := 1) (n := (bm + bm / 2)) (by first | decide | omega) (by first | decide | omega) ?_
    exact W.aret (v := .ref ra_1) hx hb hr (Or.inr ⟨_, rfl⟩) (Or.inr ⟨_, rfl⟩) (fun tz ht hW => ⟨⟨(), ra_1, rfl, trivial, B1r_at ht (hP.sub [0, 2] rfl) (hD.sub [0, 2] (by decide) rfl) trivial⟩, hS.F ht⟩) hS.2.2 dJ20_grow_2_44
  · have c_7 : ¬ 0 < bm := fun h => c_7 ((nI_ltI (a := 0) (b := bm) (by omega) (by omega)).mpr h)
    exfalso; omega
set_option maxHeartbeats 4000000 in
theorem j20_grow0 {l : Launch} {dC : Nat → ClassId} {dI : Nat → Nat → Nat} {dA : Nat → ClassId} {s0 : State} {b0 : Addr} (Z : Z0 l dC dI dA s0 b0) (A : Nat → Prop) (sz : Nat) (hA : ∀ q : Nat, sz ≤ q → A q) {σ : Nat → Nat} {dS : va_G} (Y2 : S2 (dC, dI) dS dA σ s0) (al ed bm : Nat) (md : Int32) (g : Nat → Nat) (c9 : Nat) (hcm : c9 = bm) (h2 : 2 ≤ bm) (h3 : bm ≤ 3000) (hnA : ∀ i, i < c9 → ¬ A (g i)) : Met l yJ20_grow (ws_ yJ20_grow cJ20_grow 1 (some (.array (.object "java/lang/Object")))) ({ frames := 5, cells := 1, slots := (bm + bm / 2), locals := 300 } : Room) (gP [.ref al] s0 A (fun H => H.size = sz ∧ va_P (dC, dI) vwCl [(al, .inr (13, [.int md, .ref ed, .int (nI c9)])), (ed, .inl (dA 8, bm, .inr (.inr (.inr (.inr (lsE g c9))))))] H ∧ va_D A [(al, .inr (13, [.int md, .ref ed, .int (nI c9)])), (ed, .inl (dA 8, bm, .inr (.inr (.inr (.inr (lsE g c9))))))] ∧ (∀ i, i < c9 → OBJ s0 H (g i)))) (va_Qr (S := Unit) (fun _ => True) (B1r (dC, dI) A (fun _ q => [(al, .inr (13, [.int md, .ref q, .int (nI c9)])), (q, .inl (dA 8, (bm + bm / 2), .inr (.inr (.inr (.inr (lsE g c9))))))]) (fun _ _ _ => True)) A) 1 (bm + bm / 2) A := by
  refine Met.ofW (cc := cJ20_grow) (maxL := 1) (ret := (some (.array (.object "java/lang/Object")))) (by decide) rfl ?_
  intro p e s m args below meth c s₁ B hml hv
  obtain ⟨hav, hG, hsz, hP, hD, hOB⟩ := hv
  have hx := B.exec
  have hb := B.bytes
  have hr := B.returns
  have hts := atoms_spec (ws := (ws_ yJ20_grow cJ20_grow 1 (some (.array (.object "java/lang/Object"))))) B.pre
  have hts : ∀ w ∈ lw_all, w.before _ s = true := fun w h => hts w (List.mem_cons_of_mem _ h)
  have hown : s.vm.findClass RJ20 = some m.cls := findClass_of_methodNamed B.named
  have hlocks := B.notSynchronized
  have hK := hG.K Z
  subst hsz
  have hS : va_S A s.heap s.heap [] := va_S.rf
  have hl := lv_entry ([.ref al]) (n := 1) (Nat.le_of_ble_eq_true rfl)
  rw [show entryFrame m args 1 = entryFrame m ([.ref al] : List Value).toArray 1 from by rw [hav], lg_entry_eq]
  generalize (lg_sl ([.ref al]) ++ List.replicate (1 - (lg_sl ([.ref al])).length) Slot.unset).toArray = ls at hl ⊢
  have hl : lv_has ls 1 [(0, .ref al)] := hl
  generalize hQe : MQ below _ _ s _ _ _ = Q
  change W p l e ({ frames := 5, cells := 1, slots := (bm + bm / 2), locals := 300 } : Room) s m args below meth c s.heap [] 0 0 Q (F0 m 0 ls [])
  refine lv_aload_n hx hb dJ20_grow_0 rfl (lv_at hl 0 rfl) ?_
  refine lv_aload_n hx hb dJ20_grow_1 rfl (lv_at hl 0 rfl) ?_
  refine va_get (D := (dC, dI)) (ci := 13) (v := .int (nI c9)) (C := RJ20) (T := TJ20) (N := 3) hx hb hts in_J20 hown hK hP 0 rfl rfl 2 (by decide) (hts _ q1597) (fun _ h9 => h9) rfl dJ20_grow_2 ?_
  refine lv_iconst (v := nI 1) hx hb dJ20_grow_5 (by decide) ?_
  refine lv_iadd hx hb dJ20_grow_6 ?_
  refine e_i (y := nI (c9 + 1)) (nI_add _ _) ?_
  have hF9 := va_free (wc := [(al, .inr (13, [.int md, .ref ed, .int (nI c9)])), (ed, .inl (dA 8, bm, .inr (.inr (.inr (.inr (lsE g c9))))))]) hD hS (fun q h => hA q h) [0, 1] rfl
  refine c_r (wr := []) (va_runV (As := [.int (nI (c9 + 1))]) (rest := []) ⟨hx, hb, hml, hown, hts⟩ (j20_grow1 Z (va_A [(al, .inr (13, [.int md, .ref ed, .int (nI c9)])), (ed, .inl (dA 8, bm, .inr (.inr (.inr (.inr (lsE g c9))))))] s.heap.size) s.heap.size (fun q h => Or.inr h) Y2 al ed bm md g c9 hcm (by omega) (by omega) (fun i hi h => hnA i hi (hF9 _ h))) (cwV 1 hts (lw_V q1638 q1640 qs30 q134 q1641) rfl rfl rfl (by decide +kernel) ⟨Nat.le_of_ble_eq_true rfl, Nat.le_of_ble_eq_true rfl⟩) (gP_V (va_recv hK hP (ci := 13) (q0 := 0) rfl rfl) hG hS (fun q _ h => hF9 q h) ⟨rfl, (hP.sub (ws' := [(al, .inr (13, [.int md, .ref ed, .int (nI c9)])), (ed, .inl (dA 8, bm, .inr (.inr (.inr (.inr (lsE g c9))))))]) [0, 1] rfl), (hD.sub (ws' := [(al, .inr (13, [.int md, .ref ed, .int (nI c9)])), (ed, .inl (dA 8, bm, .inr (.inr (.inr (.inr (lsE g c9))))))]) [0, 1] (by decide) rfl).self, (fun i hi => (hOB i hi).to (hS.2.1 _ (hOB i hi).lt (hnA i hi)))⟩) rfl rfl hl.1 rfl (lv_room (Nat.le_of_ble_eq_true rfl)) dJ20_grow_7 ⟨by first | decide | omega | (show _ ≤ (1 : Nat); omega), by first | decide | omega | (show _ ≤ ((bm + bm / 2) : Nat); omega)⟩) hP hD hS hA [0, 1] [] rfl rfl (by decide) (by decide) (fun u9 ra9 H locs hq hX hz hk hP hD hS => ?_)
  obtain ⟨ra_1, rfl⟩ : ∃ z, z = ra9 := ⟨_, rfl⟩
  have hP : va_P (dC, dI) vwCl [(al, .inr (13, [.int md, .ref ra_1, .int (nI c9)])), (ra_1, .inl (dA 8, (bm + bm / 2), .inr (.inr (.inr (.inr (lsE g c9))))))] H := hP
  have hD : va_D A [(al, .inr (13, [.int md, .ref ra_1, .int (nI c9)])), (ra_1, .inl (dA 8, (bm + bm / 2), .inr (.inr (.inr (.inr (lsE g c9))))))] := hD
  subst hQe
  refine W.widen (k := 1) (n := (bm + bm / 2)) (by first | decide | omega) (by first | decide | omega) ?_
  exact W.aret (v := .ref ra_1) hx hb hr (Or.inr ⟨_, rfl⟩) (Or.inr ⟨_, rfl⟩) (fun tz ht hW => ⟨⟨(), ra_1, rfl, trivial, B1r_at ht (hP.sub [0, 1] rfl) (hD.sub [0, 1] (by decide) rfl) trivial⟩, hS.F ht⟩) hS.2.2 dJ20_grow_10
