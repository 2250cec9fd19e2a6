/-! a builder's texts -/
theorem S2.ks {D dS : va_G} {dA : Nat → ClassId} {σ : Nat → Nat} {s0 : State} (Y2 : S2 D dS dA σ s0) : va_K dS strCl [] s0 := Y2.2.2.2.2.2.2.1
theorem Gd.str {s0 U : State} {A : Nat → Prop} {D : va_G} {cl : List vw_C} {ws : va_W} {H : Heap} {locs : List Loc} (h : Gd s0 A U U.heap) (hP : va_P D cl ws s0.heap) (hS : va_S A U.heap H locs) : va_P D cl ws H :=
  hP.kept (fun k q hk => by
    have hl := (hP k q hk).lt
    obtain ⟨e, n⟩ := h.2.2 q.1 hl
    rw [hS.2.1 q.1 (Nat.lt_of_lt_of_le hl h.2.1) n, e])
theorem gB_O {f : Nat → Int32} {L : List Nat} {n v : Nat} (hn : L.length = n) (hO : OutH L f) : OutH (L ++ wrN v) (gB f n v (sb_dg v)) := by
  subst hn
  intro j hj
  rw [List.length_append, wrN_len] at hj
  unfold gB
  by_cases c : j < L.length
  · rw [if_neg (by omega), hO j c, List.getD_eq_getElem?_getD, List.getD_eq_getElem?_getD, List.getElem?_append_left c]
  · rw [if_pos (by omega), List.getD_eq_getElem?_getD, List.getElem?_append_right (by omega)]
    unfold wrN
    rw [List.getElem?_map, List.getElem?_range (by omega)]
    show _ = sb_b (48 + v / 10 ^ (sb_dg v - 1 - (j - L.length)) % 10)
    rw [show L.length + sb_dg v - 1 - j = sb_dg v - 1 - (j - L.length) by omega]
theorem gB_fit {f : Nat → Int32} {n v k : Nat} (hf : sb_Fit f) : sb_Fit (gB f n v k) := by
  intro j
  unfold gB
  split
  · exact sb_fitB _
  · exact hf j
theorem cat_O {f g : Nat → Int32} {L SL : List Nat} {n w : Nat} (hn : L.length = n) (hO : OutH L f) (hw : SL.length = w) (hs : OutH SL g) : OutH (L ++ SL) (va_cpy g f 0 n w) := by
  subst hn hw
  intro j hj
  rw [List.length_append] at hj
  by_cases c : j < L.length
  · rw [pk_cpy_out (by omega), hO j c, List.getD_eq_getElem?_getD, List.getD_eq_getElem?_getD, List.getElem?_append_left c]
  · rw [pk_cpy_in (by omega) (by omega), Nat.zero_add, hs _ (by omega), List.getD_eq_getElem?_getD, List.getD_eq_getElem?_getD, List.getElem?_append_right (by omega)]
theorem mn_le {n m : Nat} (h : n ≤ m) (hm : m < 2 ^ 31) : (if nI m < nI n then nI m else nI n) = nI n := if_neg (nI_nlt h hm)
theorem ca_m {L : List Nat} {i : Nat} (h : i < L.length) : L.getD i 0 ∈ L := by
  rw [List.getD_eq_getElem?_getD, List.getElem?_eq_getElem h]
  exact List.getElem_mem h
theorem ca_41 {y : Int32} {c : Nat} (h : y = sb_b c) (hc : c < 256) : ((y &&& nI 255).toUInt32 % 65536).toInt32 = nI c := by
  obtain ⟨b1, b2, -⟩ := sb_byte c hc
  rw [h, show (nI 255 : Int32) = 255 from rfl, b1, b2]
set_option maxHeartbeats 4000000 in
theorem j0_appendI {l : Launch} {dC : Nat → ClassId} {dI : Nat → Nat → Nat} {dA : Nat → ClassId} {s0 : State} {b0 : Addr} (Z : Z0 l dC dI dA s0 b0) (A : Nat → Prop) (sz : Nat) (hA : ∀ q : Nat, sz ≤ q → A q) {σ : Nat → Nat} {dS : va_G} (Y2 : S2 (dC, dI) dS dA σ s0) (sb bv bm n : Nat) (ml : Int32) (f : Nat → Int32) (L : List Nat) (v : Nat) (hn : L.length = n) (hO : OutH L f) (hf : sb_Fit f) (h2 : n ≤ bm) (h3 : bm ≤ 5000) (h4 : v ≤ 9) : Met l yJ0_append_2 (ws_ yJ0_append_2 cJ0_append_2 4 (some (.object "java/lang/AbstractStringBuilder"))) ({ frames := 6, cells := (cpN bm (n + 1) - bm), slots := (2 * (cpN bm (n + 1) - bm)), locals := 360 } : Room) (gP [.ref sb, .int (nI v)] s0 A (fun H => H.size = sz ∧ va_P (dC, dI) vwCl [(sb, .inr (15, [.ref bv, .int (nI 0), .int ml, .int (nI n)])), (bv, .inl (dA 2, bm, .inl f))] H ∧ va_D A [(sb, .inr (15, [.ref bv, .int (nI 0), .int ml, .int (nI n)])), (bv, .inl (dA 2, bm, .inl f))])) (va_Qr (S := Nat × (Nat → Int32)) (fun u => OutH (L ++ [48 + v]) u.2 ∧ sb_Fit u.2) (B1r (dC, dI) A (fun u _ => [(sb, .inr (15, [.ref u.1, .int (nI 0), .int ml, .int (nI (n + 1))])), (u.1, .inl (dA 2, (cpN bm (n + 1)), .inl u.2))]) (fun _ q _ => q = sb)) A) (cpN bm (n + 1) - bm) (2 * (cpN bm (n + 1) - bm)) A := by
  refine Met.ofW (cc := cJ0_append_2) (maxL := 4) (ret := (some (.object "java/lang/AbstractStringBuilder"))) (by decide) rfl ?_
  intro p e s m args below meth c s₁ B hml hv
  obtain ⟨hav, hG, hsz, hP, hD⟩ := hv
  have hx := B.exec
  have hb := B.bytes
  have hr := B.returns
  have hts := atoms_spec (ws := (ws_ yJ0_append_2 cJ0_append_2 4 (some (.object "java/lang/AbstractStringBuilder")))) B.pre
  have hts : ∀ w ∈ lw_all, w.before _ s = true := fun w h => hts w (List.mem_cons_of_mem _ h)
  have hown : s.vm.findClass RJ0 = some m.cls := findClass_of_methodNamed B.named
  have hlocks := B.notSynchronized
  have hK := hG.K Z
  subst hsz
  have hS : va_S A s.heap s.heap [] := va_S.rf
  have hl := lv_entry ([.ref sb, .int (nI v)]) (n := 4) (Nat.le_of_ble_eq_true rfl)
  rw [show entryFrame m args 4 = entryFrame m ([.ref sb, .int (nI v)] : List Value).toArray 4 from by rw [hav], lg_entry_eq]
  generalize (lg_sl ([.ref sb, .int (nI v)]) ++ List.replicate (4 - (lg_sl ([.ref sb, .int (nI v)])).length) Slot.unset).toArray = ls at hl ⊢
  have hl : lv_has ls 4 [(0, .ref sb), (1, .int (nI v))] := hl
  generalize hQe : MQ below _ _ s _ _ _ = Q
  change W p l e ({ frames := 6, cells := (cpN bm (n + 1) - bm), slots := (2 * (cpN bm (n + 1) - bm)), locals := 360 } : Room) s m args below meth c s.heap [] 0 0 Q (F0 m 0 ls [])
  have hc1 := cp_ge (m := bm) (N := n + 1)
  have hc2 := cp_bd (m := bm) (N := n + 1)
  have hc3 := cp_gem (m := bm) (N := n + 1)
  refine lv_aload_n hx hb dJ0_append_2_0 rfl (lv_at hl 0 rfl) ?_
  refine va_get (D := (dC, dI)) (ci := 15) (v := .int (nI n)) (C := RJ1) (T := TJ1) (N := 4) hx hb hts in_J1 hown hK hP 0 rfl rfl 3 (by decide) (hts _ q273) (fun _ h9 => h9) rfl dJ0_append_2_1 ?_
  refine lv_istore_n (lv' := [(2, .int (nI n)), (0, .ref sb), (1, .int (nI v))]) hx hb dJ0_append_2_4 rfl hl (by decide) rfl (fun ls hl => ?_)
  refine lv_iload_n hx hb dJ0_append_2_5 rfl (lv_at hl 0 rfl) ?_
  refine lv_iload_n hx hb dJ0_append_2_6 rfl (lv_at hl 2 rfl) ?_
  refine s_i (va_runS (As := [.int (nI v)]) (rest := [.int (nI n)]) ⟨hx, hb, hml, hown, hts⟩ (j24_size1 Z Y2 v (by omega)) (va_cwS 1 hts (lw_S q1515 q1516 q139 q1517) rfl rfl rfl (by decide +kernel) ⟨Nat.le_of_ble_eq_true rfl, Nat.le_of_ble_eq_true rfl⟩) (gP_S hG hS (fun q _ h => h.elim) trivial) rfl rfl hl.1 rfl (lv_room (Nat.le_of_ble_eq_true rfl)) dJ0_append_2_7 ⟨by first | decide | omega | (show _ ≤ ((cpN bm (n + 1) - bm) : Nat); omega), by first | decide | omega | (show _ ≤ ((2 * (cpN bm (n + 1) - bm)) : Nat); omega)⟩) ?_
  refine lv_iadd hx hb dJ0_append_2_10 ?_
  refine e_i (y := nI (n + 1)) (nI_add _ _) ?_
  refine lv_istore_n (lv' := [(3, .int (nI (n + 1))), (2, .int (nI n)), (0, .ref sb), (1, .int (nI v))]) hx hb dJ0_append_2_11 rfl hl (by decide) rfl (fun ls hl => ?_)
  refine lv_aload_n hx hb dJ0_append_2_12 rfl (lv_at hl 2 rfl) ?_
  refine lv_iload_n hx hb dJ0_append_2_13 rfl (lv_at hl 0 rfl) ?_
  have hF9 := va_free (wc := [(sb, .inr (15, [.ref bv, .int (nI 0), .int ml, .int (nI n)])), (bv, .inl (dA 2, bm, .inl f))]) hD hS (fun q h => hA q h) [0, 1] rfl
  refine c_v (wr := []) (va_runV (As := [.int (nI (n + 1))]) (rest := []) ⟨hx, hb, hml, hown, hts⟩ (j0_ensure Z (va_A [(sb, .inr (15, [.ref bv, .int (nI 0), .int ml, .int (nI n)])), (bv, .inl (dA 2, bm, .inl f))] s.heap.size) s.heap.size (fun q h => Or.inr h) Y2 sb bv bm n (n + 1) ml f (by omega) (by omega) hf) ⟨cb_of 1 hts (lw_meth q1436) rfl rfl rfl (hts _ q1433) (hts _ q103) (by decide +kernel) ⟨Nat.le_of_ble_eq_true rfl, Nat.le_of_ble_eq_true rfl⟩, hts _ q1435, (selZ Z hG q1434 q1435 (by decide) rfl)⟩ (gP_V (va_recv hK hP (ci := 15) (q0 := 0) rfl rfl) hG hS (fun q _ h => hF9 q h) ⟨rfl, (hP.sub (ws' := [(sb, .inr (15, [.ref bv, .int (nI 0), .int ml, .int (nI n)])), (bv, .inl (dA 2, bm, .inl f))]) [0, 1] rfl), (hD.sub (ws' := [(sb, .inr (15, [.ref bv, .int (nI 0), .int ml, .int (nI n)])), (bv, .inl (dA 2, bm, .inl f))]) [0, 1] (by decide) rfl).self⟩) rfl rfl hl.1 rfl (lv_room (Nat.le_of_ble_eq_true rfl)) dJ0_append_2_14 ⟨by first | decide | omega | (show _ ≤ ((cpN bm (n + 1) - bm) : Nat); omega), by first | decide | omega | (show _ ≤ ((2 * (cpN bm (n + 1) - bm)) : Nat); omega)⟩) hP hD hS hA [0, 1] [] rfl rfl (by decide) (by decide) (fun u9 H locs hq hX hz hk hP hD hS => ?_)
  obtain ⟨bv_0, f_0⟩ := u9
  obtain ⟨hu1_0, hu2_0⟩ := hq
  have hP : va_P (dC, dI) vwCl [(sb, .inr (15, [.ref bv_0, .int (nI 0), .int ml, .int (nI n)])), (bv_0, .inl (dA 2, (cpN bm (n + 1)), .inl f_0))] H := hP
  have hD : va_D A [(sb, .inr (15, [.ref bv_0, .int (nI 0), .int ml, .int (nI n)])), (bv_0, .inl (dA 2, (cpN bm (n + 1)), .inl f_0))] := hD
  refine lv_aload_n hx hb dJ0_append_2_17 rfl (lv_at hl 2 rfl) ?_
  refine s_i (va_runV (As := []) (rest := []) ⟨hx, hb, hml, hown, hts⟩ (j0_isLatin1 Z Y2 sb bv_0 n ml) ⟨cb_of 0 hts (lw_meth q1466) rfl rfl rfl (hts _ q1462) (hts _ q103) (by decide +kernel) ⟨Nat.le_of_ble_eq_true rfl, Nat.le_of_ble_eq_true rfl⟩, hts _ q1463, (hts _ q1465)⟩ (gP_V (va_recv hK hP (ci := 15) (q0 := 0) rfl rfl) hG hS (fun q _ h => h.elim) (hP.sub (ws' := [(sb, .inr (15, [.ref bv_0, .int (nI 0), .int ml, .int (nI n)]))]) [0] rfl)) rfl rfl hl.1 rfl (lv_room (Nat.le_of_ble_eq_true rfl)) dJ0_append_2_18 ⟨by first | decide | omega | (show _ ≤ ((cpN bm (n + 1) - bm) : Nat); omega), by first | decide | omega | (show _ ≤ ((2 * (cpN bm (n + 1) - bm)) : Nat); omega)⟩) ?_
  refine lv_if_eq (tgt := 37) hx hb dJ0_append_2_21 (by decide) (fun c_21 => ?_) (fun c_21 => ?_)
  · exact absurd c_21 (by decide)
  refine lv_iload_n hx hb dJ0_append_2_24 rfl (lv_at hl 3 rfl) ?_
  refine lv_iload_n hx hb dJ0_append_2_25 rfl (lv_at hl 0 rfl) ?_
  refine lv_aload_n hx hb dJ0_append_2_26 rfl (lv_at hl 2 rfl) ?_
  refine va_get (D := (dC, dI)) (ci := 15) (v := .ref bv_0) (C := RJ1) (T := TJ1) (N := 4) hx hb hts in_J1 hown hK hP 0 rfl rfl 0 (by decide) (hts _ q269) (fun _ h9 => h9) rfl dJ0_append_2_27 ?_
  have hF9 := va_free (wc := [(bv_0, .inl (dA 2, (cpN bm (n + 1)), .inl f_0))]) hD hS (fun q h => hA q h) [1] rfl
  refine c_i (wr := [(sb, .inr (15, [.ref bv_0, .int (nI 0), .int ml, .int (nI n)]))]) (va_runS (As := [.int (nI v), .int (nI (n + 1)), .ref bv_0]) (rest := []) ⟨hx, hb, hml, hown, hts⟩ (j24_getChars1 Z (va_A [(bv_0, .inl (dA 2, (cpN bm (n + 1)), .inl f_0))] H.size) H.size (fun q h => Or.inr h) Y2 bv_0 (cpN bm (n + 1)) n v f_0 (by omega) (by omega) (by omega)) (va_cwS 3 hts (lw_S q1518 q1519 q139 q1520) rfl rfl rfl (by decide +kernel) ⟨Nat.le_of_ble_eq_true rfl, Nat.le_of_ble_eq_true rfl⟩) (gP_S hG hS (fun q _ h => hF9 q h) ⟨rfl, (hP.sub (ws' := [(bv_0, .inl (dA 2, (cpN bm (n + 1)), .inl f_0))]) [1] rfl), (hD.sub (ws' := [(bv_0, .inl (dA 2, (cpN bm (n + 1)), .inl f_0))]) [1] (by decide) rfl).self⟩) rfl rfl hl.1 rfl (lv_room (Nat.le_of_ble_eq_true rfl)) dJ0_append_2_30 ⟨by first | decide | omega | (show _ ≤ ((cpN bm (n + 1) - bm) : Nat); omega), by first | decide | omega | (show _ ≤ ((2 * (cpN bm (n + 1) - bm)) : Nat); omega)⟩) hP hD hS hA [1] [0] rfl rfl (by decide) (by decide) (fun r9 u9 H locs hq hX hz hk hP hD hS => ?_)
  obtain ⟨r_1, rfl⟩ : ∃ z, z = r9 := ⟨_, rfl⟩
  have hP : va_P (dC, dI) vwCl [(sb, .inr (15, [.ref bv_0, .int (nI 0), .int ml, .int (nI n)])), (bv_0, .inl (dA 2, (cpN bm (n + 1)), .inl (upd f_0 n (sb_b (48 + v)))))] H := hP
  have hD : va_D A [(sb, .inr (15, [.ref bv_0, .int (nI 0), .int ml, .int (nI n)])), (bv_0, .inl (dA 2, (cpN bm (n + 1)), .inl (upd f_0 n (sb_b (48 + v)))))] := hD
  refine lv_pop hx hb dJ0_append_2_33 rfl ?_
  refine lv_goto (tgt := 48) hx hb dJ0_append_2_34 (by decide) ?_
  refine lv_aload_n hx hb dJ0_append_2_48 rfl (lv_at hl 2 rfl) ?_
  refine lv_iload_n hx hb dJ0_append_2_49 rfl (lv_at hl 0 rfl) ?_
  refine va_put (D := (dC, dI)) (ci := 15) (v := .int (nI (n + 1))) (ty := .int) (C := RJ1) (T := TJ1) (N := 4) hx hb hts in_J1 tyJ1 tyJ1_ok nmJ1 hown hK hP hD hS 0 rfl rfl 3 (by decide) (hts _ q273) (fun _ h9 => h9) rfl (by decide +kernel) rfl rfl (Nat.le_of_ble_eq_true rfl) dJ0_append_2_50 (fun H locs hP hD hS => ?_)
  have hP : va_P (dC, dI) vwCl [(sb, .inr (15, [.ref bv_0, .int (nI 0), .int ml, .int (nI (n + 1))])), (bv_0, .inl (dA 2, (cpN bm (n + 1)), .inl (upd f_0 n (sb_b (48 + v)))))] H := hP
  have hD : va_D A [(sb, .inr (15, [.ref bv_0, .int (nI 0), .int ml, .int (nI (n + 1))])), (bv_0, .inl (dA 2, (cpN bm (n + 1)), .inl (upd f_0 n (sb_b (48 + v)))))] := hD
  refine lv_aload_n hx hb dJ0_append_2_53 rfl (lv_at hl 2 rfl) ?_
  subst hQe
  refine W.widen (k := (cpN bm (n + 1) - bm)) (n := (2 * (cpN bm (n + 1) - bm))) (by first | decide | omega) (by first | decide | omega) ?_
  exact W.aret (v := .ref sb) hx hb hr (Or.inl ⟨_, rfl⟩) (Or.inr ⟨_, rfl⟩) (fun tz ht hW => ⟨⟨(bv_0, (upd f_0 n (sb_b (48 + v)))), sb, rfl, ⟨OutH.add (fun j hj => (hu1_0 j (by omega)).trans (hO j hj)) hn, sb_fitU hu2_0 (sb_fitB _)⟩, B1r_at ht (hP.sub [0, 1] rfl) (hD.sub [0, 1] (by decide) rfl) rfl⟩, hS.F ht⟩) hS.2.2 dJ0_append_2_54
set_option maxHeartbeats 4000000 in
theorem j1_appendI {l : Launch} {dC : Nat → ClassId} {dI : Nat → Nat → Nat} {dA : Nat → ClassId} {s0 : State} {b0 : Addr} (Z : Z0 l dC dI dA s0 b0) (A : Nat → Prop) (sz : Nat) (hA : ∀ q : Nat, sz ≤ q → A q) {σ : Nat → Nat} {dS : va_G} (Y2 : S2 (dC, dI) dS dA σ s0) (sb bv bm n : Nat) (ml : Int32) (f : Nat → Int32) (L : List Nat) (v : Nat) (hn : L.length = n) (hO : OutH L f) (hf : sb_Fit f) (h2 : n ≤ bm) (h3 : bm ≤ 5000) (h4 : v ≤ 9) : Met l yJ1_append_2 (ws_ yJ1_append_2 cJ1_append_2 2 (some (.object "java/lang/StringBuilder"))) ({ frames := 7, cells := (cpN bm (n + 1) - bm), slots := (2 * (cpN bm (n + 1) - bm)), locals := 420 } : Room) (gP [.ref sb, .int (nI v)] s0 A (fun H => H.size = sz ∧ va_P (dC, dI) vwCl [(sb, .inr (15, [.ref bv, .int (nI 0), .int ml, .int (nI n)])), (bv, .inl (dA 2, bm, .inl f))] H ∧ va_D A [(sb, .inr (15, [.ref bv, .int (nI 0), .int ml, .int (nI n)])), (bv, .inl (dA 2, bm, .inl f))])) (va_Qr (S := Nat × (Nat → Int32)) (fun u => OutH (L ++ [48 + v]) u.2 ∧ sb_Fit u.2) (B1r (dC, dI) A (fun u _ => [(sb, .inr (15, [.ref u.1, .int (nI 0), .int ml, .int (nI (n + 1))])), (u.1, .inl (dA 2, (cpN bm (n + 1)), .inl u.2))]) (fun _ q _ => q = sb)) A) (cpN bm (n + 1) - bm) (2 * (cpN bm (n + 1) - bm)) A := by
  refine Met.ofW (cc := cJ1_append_2) (maxL := 2) (ret := (some (.object "java/lang/StringBuilder"))) (by decide) rfl ?_
  intro p e s m args below meth c s₁ B hml hv
  obtain ⟨hav, hG, hsz, hP, hD⟩ := hv
  have hx := B.exec
  have hb := B.bytes
  have hr := B.returns
  have hts := atoms_spec (ws := (ws_ yJ1_append_2 cJ1_append_2 2 (some (.object "java/lang/StringBuilder")))) B.pre
  have hts : ∀ w ∈ lw_all, w.before _ s = true := fun w h => hts w (List.mem_cons_of_mem _ h)
  have hown : s.vm.findClass RJ1 = some m.cls := findClass_of_methodNamed B.named
  have hlocks := B.notSynchronized
  have hK := hG.K Z
  subst hsz
  have hS : va_S A s.heap s.heap [] := va_S.rf
  have hl := lv_entry ([.ref sb, .int (nI v)]) (n := 2) (Nat.le_of_ble_eq_true rfl)
  rw [show entryFrame m args 2 = entryFrame m ([.ref sb, .int (nI v)] : List Value).toArray 2 from by rw [hav], lg_entry_eq]
  generalize (lg_sl ([.ref sb, .int (nI v)]) ++ List.replicate (2 - (lg_sl ([.ref sb, .int (nI v)])).length) Slot.unset).toArray = ls at hl ⊢
  have hl : lv_has ls 2 [(0, .ref sb), (1, .int (nI v))] := hl
  generalize hQe : MQ below _ _ s _ _ _ = Q
  change W p l e ({ frames := 7, cells := (cpN bm (n + 1) - bm), slots := (2 * (cpN bm (n + 1) - bm)), locals := 420 } : Room) s m args below meth c s.heap [] 0 0 Q (F0 m 0 ls [])
  refine lv_aload_n hx hb dJ1_append_2_0 rfl (lv_at hl 0 rfl) ?_
  refine lv_iload_n hx hb dJ1_append_2_1 rfl (lv_at hl 1 rfl) ?_
  have hF9 := va_free (wc := [(sb, .inr (15, [.ref bv, .int (nI 0), .int ml, .int (nI n)])), (bv, .inl (dA 2, bm, .inl f))]) hD hS (fun q h => hA q h) [0, 1] rfl
  refine c_r (wr := []) (va_runSU (hK.1 15 _ rfl).2 (As := [.int (nI v)]) (rest := []) ⟨hx, hb, hml, hown, hts⟩ (j0_appendI Z (va_A [(sb, .inr (15, [.ref bv, .int (nI 0), .int ml, .int (nI n)])), (bv, .inl (dA 2, bm, .inl f))] s.heap.size) s.heap.size (fun q h => Or.inr h) Y2 sb bv bm n ml f L v hn hO hf  (by omega) (by omega) (by omega)) (va_cwSU 1 hts (lw_SU q1512 q2540 q282 q1513 q103 q1514) rfl rfl rfl (by decide +kernel) ⟨Nat.le_of_ble_eq_true rfl, Nat.le_of_ble_eq_true rfl⟩) (gP_V (va_recv hK hP (ci := 15) (q0 := 0) rfl rfl) hG hS (fun q _ h => hF9 q h) ⟨rfl, (hP.sub (ws' := [(sb, .inr (15, [.ref bv, .int (nI 0), .int ml, .int (nI n)])), (bv, .inl (dA 2, bm, .inl f))]) [0, 1] rfl), (hD.sub (ws' := [(sb, .inr (15, [.ref bv, .int (nI 0), .int ml, .int (nI n)])), (bv, .inl (dA 2, bm, .inl f))]) [0, 1] (by decide) rfl).self⟩) rfl rfl hl.1 rfl (lv_room (Nat.le_of_ble_eq_true rfl)) dJ1_append_2_2 ⟨by first | decide | omega | (show _ ≤ ((cpN bm (n + 1) - bm) : Nat); omega), by first | decide | omega | (show _ ≤ ((2 * (cpN bm (n + 1) - bm)) : Nat); omega)⟩) hP hD hS hA [0, 1] [] rfl rfl (by decide) (by decide) (fun u9 ra9 H locs hq hX hz hk hP hD hS => ?_)
  obtain ⟨ra_1, rfl⟩ : ∃ z, z = ra9 := ⟨_, rfl⟩
  obtain ⟨bv_1, f_1⟩ := u9
  obtain ⟨hO_1, hf_1⟩ := hq
  refine e_v (y := .ref sb) (congrArg Value.ref hX) ?_
  have hP : va_P (dC, dI) vwCl [(sb, .inr (15, [.ref bv_1, .int (nI 0), .int ml, .int (nI (n + 1))])), (bv_1, .inl (dA 2, (cpN bm (n + 1)), .inl f_1))] H := hP
  have hD : va_D A [(sb, .inr (15, [.ref bv_1, .int (nI 0), .int ml, .int (nI (n + 1))])), (bv_1, .inl (dA 2, (cpN bm (n + 1)), .inl f_1))] := hD
  refine lv_pop hx hb dJ1_append_2_5 rfl ?_
  refine lv_aload_n hx hb dJ1_append_2_6 rfl (lv_at hl 0 rfl) ?_
  subst hQe
  refine W.widen (k := (cpN bm (n + 1) - bm)) (n := (2 * (cpN bm (n + 1) - bm))) (by first | decide | omega) (by first | decide | omega) ?_
  exact W.aret (v := .ref sb) hx hb hr (Or.inl ⟨_, rfl⟩) (Or.inr ⟨_, rfl⟩) (fun tz ht hW => ⟨⟨(bv_1, f_1), sb, rfl, ⟨hO_1, hf_1⟩, B1r_at ht (hP.sub [0, 1] rfl) (hD.sub [0, 1] (by decide) rfl) rfl⟩, hS.F ht⟩) hS.2.2 dJ1_append_2_7
set_option maxHeartbeats 4000000 in
theorem j0_appendJ {l : Launch} {dC : Nat → ClassId} {dI : Nat → Nat → Nat} {dA : Nat → ClassId} {s0 : State} {b0 : Addr} (Z : Z0 l dC dI dA s0 b0) (A : Nat → Prop) (sz : Nat) (hA : ∀ q : Nat, sz ≤ q → A q) {σ : Nat → Nat} {dS : va_G} (Y2 : S2 (dC, dI) dS dA σ s0) (sb bv bm n : Nat) (ml : Int32) (f : Nat → Int32) (L : List Nat) (v : Nat) (hn : L.length = n) (hO : OutH L f) (hf : sb_Fit f) (h2 : n ≤ bm) (h3 : bm ≤ 5000) (hv : v < 1000000000) (h5 : 16 ≤ bm) : Met l yJ0_append_4 (ws_ yJ0_append_4 cJ0_append_4 5 (some (.object "java/lang/AbstractStringBuilder"))) ({ frames := 6, cells := (cpN bm (n + sb_dg v) - bm), slots := (2 * (cpN bm (n + sb_dg v) - bm)), locals := 360 } : Room) (gP [.ref sb, .long (lN v)] s0 A (fun H => H.size = sz ∧ va_P (dC, dI) vwCl [(sb, .inr (15, [.ref bv, .int (nI 0), .int ml, .int (nI n)])), (bv, .inl (dA 2, bm, .inl f))] H ∧ va_D A [(sb, .inr (15, [.ref bv, .int (nI 0), .int ml, .int (nI n)])), (bv, .inl (dA 2, bm, .inl f))])) (va_Qr (S := Nat × (Nat → Int32)) (fun u => OutH (L ++ wrN v) u.2 ∧ sb_Fit u.2) (B1r (dC, dI) A (fun u _ => [(sb, .inr (15, [.ref u.1, .int (nI 0), .int ml, .int (nI (n + sb_dg v))])), (u.1, .inl (dA 2, (cpN bm (n + sb_dg v)), .inl u.2))]) (fun _ q _ => q = sb)) A) (cpN bm (n + sb_dg v) - bm) (2 * (cpN bm (n + sb_dg v) - bm)) A := by
  refine Met.ofW (cc := cJ0_append_4) (maxL := 5) (ret := (some (.object "java/lang/AbstractStringBuilder"))) (by decide) rfl ?_
  intro p e s m args below meth c s₁ B hml hv
  obtain ⟨hav, hG, hsz, hP, hD⟩ := hv
  have hx := B.exec
  have hb := B.bytes
  have hr := B.returns
  have hts := atoms_spec (ws := (ws_ yJ0_append_4 cJ0_append_4 5 (some (.object "java/lang/AbstractStringBuilder")))) B.pre
  have hts : ∀ w ∈ lw_all, w.before _ s = true := fun w h => hts w (List.mem_cons_of_mem _ h)
  have hown : s.vm.findClass RJ0 = some m.cls := findClass_of_methodNamed B.named
  have hlocks := B.notSynchronized
  have hK := hG.K Z
  subst hsz
  have hS : va_S A s.heap s.heap [] := va_S.rf
  have hl := lv_entry ([.ref sb, .long (lN v)]) (n := 5) (Nat.le_of_ble_eq_true rfl)
  rw [show entryFrame m args 5 = entryFrame m ([.ref sb, .long (lN v)] : List Value).toArray 5 from by rw [hav], lg_entry_eq]
  generalize (lg_sl ([.ref sb, .long (lN v)]) ++ List.replicate (5 - (lg_sl ([.ref sb, .long (lN v)])).length) Slot.unset).toArray = ls at hl ⊢
  have hl : lv_has ls 5 [(0, .ref sb), (1, .long (lN v))] := hl
  generalize hQe : MQ below _ _ s _ _ _ = Q
  change W p l e ({ frames := 6, cells := (cpN bm (n + sb_dg v) - bm), slots := (2 * (cpN bm (n + sb_dg v) - bm)), locals := 360 } : Room) s m args below meth c s.heap [] 0 0 Q (F0 m 0 ls [])
  have hd3 := sb_dg8 hv
  have hc1 := cp_ge (m := bm) (N := n + sb_dg v)
  have hc2 := cp_bd (m := bm) (N := n + sb_dg v)
  have hc3 := cp_gem (m := bm) (N := n + sb_dg v)
  refine lv_aload_n hx hb dJ0_append_4_0 rfl (lv_at hl 0 rfl) ?_
  refine va_get (D := (dC, dI)) (ci := 15) (v := .int (nI n)) (C := RJ1) (T := TJ1) (N := 4) hx hb hts in_J1 hown hK hP 0 rfl rfl 3 (by decide) (hts _ q273) (fun _ h9 => h9) rfl dJ0_append_4_1 ?_
  refine lv_istore_n (lv' := [(3, .int (nI n)), (0, .ref sb), (1, .long (lN v))]) hx hb dJ0_append_4_4 rfl hl (by decide) rfl (fun ls hl => ?_)
  refine lv_iload_n hx hb dJ0_append_4_5 rfl (lv_at hl 0 rfl) ?_
  refine lv_lload_n hx hb dJ0_append_4_6 rfl (lv_at hl 2 rfl) ?_
  refine s_i (va_runS (As := [.long (lN v)]) (rest := [.int (nI n)]) ⟨hx, hb, hml, hown, hts⟩ (j28_stringSize Z Y2 v hv) (va_cwS 1 hts (lw_S q1943 q1944 q144 q1945) rfl rfl rfl (by decide +kernel) ⟨Nat.le_of_ble_eq_true rfl, Nat.le_of_ble_eq_true rfl⟩) (gP_S hG hS (fun q _ h => h.elim) trivial) rfl rfl hl.1 rfl (lv_room (Nat.le_of_ble_eq_true rfl)) dJ0_append_4_7 ⟨by first | decide | omega | (show _ ≤ ((cpN bm (n + sb_dg v) - bm) : Nat); omega), by first | decide | omega | (show _ ≤ ((2 * (cpN bm (n + sb_dg v) - bm)) : Nat); omega)⟩) ?_
  refine lv_iadd hx hb dJ0_append_4_10 ?_
  refine e_i (y := nI (n + (sb_dg v))) (nI_add _ _) ?_
  refine lv_istore (lv' := [(4, .int (nI (n + (sb_dg v)))), (3, .int (nI n)), (0, .ref sb), (1, .long (lN v))]) hx hb dJ0_append_4_11 hl (by decide) rfl (fun ls hl => ?_)
  refine lv_aload_n hx hb dJ0_append_4_13 rfl (lv_at hl 2 rfl) ?_
  refine lv_iload hx hb dJ0_append_4_14 (lv_at hl 0 rfl) ?_
  have hF9 := va_free (wc := [(sb, .inr (15, [.ref bv, .int (nI 0), .int ml, .int (nI n)])), (bv, .inl (dA 2, bm, .inl f))]) hD hS (fun q h => hA q h) [0, 1] rfl
  refine c_v (wr := []) (va_runV (As := [.int (nI (n + (sb_dg v)))]) (rest := []) ⟨hx, hb, hml, hown, hts⟩ (j0_ensure Z (va_A [(sb, .inr (15, [.ref bv, .int (nI 0), .int ml, .int (nI n)])), (bv, .inl (dA 2, bm, .inl f))] s.heap.size) s.heap.size (fun q h => Or.inr h) Y2 sb bv bm n (n + (sb_dg v)) ml f (by omega) (by omega) hf) ⟨cb_of 1 hts (lw_meth q1436) rfl rfl rfl (hts _ q1433) (hts _ q103) (by decide +kernel) ⟨Nat.le_of_ble_eq_true rfl, Nat.le_of_ble_eq_true rfl⟩, hts _ q1435, (selZ Z hG q1434 q1435 (by decide) rfl)⟩ (gP_V (va_recv hK hP (ci := 15) (q0 := 0) rfl rfl) hG hS (fun q _ h => hF9 q h) ⟨rfl, (hP.sub (ws' := [(sb, .inr (15, [.ref bv, .int (nI 0), .int ml, .int (nI n)])), (bv, .inl (dA 2, bm, .inl f))]) [0, 1] rfl), (hD.sub (ws' := [(sb, .inr (15, [.ref bv, .int (nI 0), .int ml, .int (nI n)])), (bv, .inl (dA 2, bm, .inl f))]) [0, 1] (by decide) rfl).self⟩) rfl rfl hl.1 rfl (lv_room (Nat.le_of_ble_eq_true rfl)) dJ0_append_4_16 ⟨by first | decide | omega | (show _ ≤ ((cpN bm (n + sb_dg v) - bm) : Nat); omega), by first | decide | omega | (show _ ≤ ((2 * (cpN bm (n + sb_dg v) - bm)) : Nat); omega)⟩) hP hD hS hA [0, 1] [] rfl rfl (by decide) (by decide) (fun u9 H locs hq hX hz hk hP hD hS => ?_)
  obtain ⟨bv_0, f_0⟩ := u9
  obtain ⟨hu1_0, hu2_0⟩ := hq
  have hP : va_P (dC, dI) vwCl [(sb, .inr (15, [.ref bv_0, .int (nI 0), .int ml, .int (nI n)])), (bv_0, .inl (dA 2, (cpN bm (n + (sb_dg v))), .inl f_0))] H := hP
  have hD : va_D A [(sb, .inr (15, [.ref bv_0, .int (nI 0), .int ml, .int (nI n)])), (bv_0, .inl (dA 2, (cpN bm (n + (sb_dg v))), .inl f_0))] := hD
  refine lv_aload_n hx hb dJ0_append_4_19 rfl (lv_at hl 2 rfl) ?_
  refine s_i (va_runV (As := []) (rest := []) ⟨hx, hb, hml, hown, hts⟩ (j0_isLatin1 Z Y2 sb bv_0 n ml) ⟨cb_of 0 hts (lw_meth q1466) rfl rfl rfl (hts _ q1462) (hts _ q103) (by decide +kernel) ⟨Nat.le_of_ble_eq_true rfl, Nat.le_of_ble_eq_true rfl⟩, hts _ q1463, (hts _ q1465)⟩ (gP_V (va_recv hK hP (ci := 15) (q0 := 0) rfl rfl) hG hS (fun q _ h => h.elim) (hP.sub (ws' := [(sb, .inr (15, [.ref bv_0, .int (nI 0), .int ml, .int (nI n)]))]) [0] rfl)) rfl rfl hl.1 rfl (lv_room (Nat.le_of_ble_eq_true rfl)) dJ0_append_4_20 ⟨by first | decide | omega | (show _ ≤ ((cpN bm (n + sb_dg v) - bm) : Nat); omega), by first | decide | omega | (show _ ≤ ((2 * (cpN bm (n + sb_dg v) - bm)) : Nat); omega)⟩) ?_
  refine lv_if_eq (tgt := 40) hx hb dJ0_append_4_23 (by decide) (fun c_23 => ?_) (fun c_23 => ?_)
  · exact absurd c_23 (by decide)
  refine lv_lload_n hx hb dJ0_append_4_26 rfl (lv_at hl 3 rfl) ?_
  refine lv_iload hx hb dJ0_append_4_27 (lv_at hl 0 rfl) ?_
  refine lv_aload_n hx hb dJ0_append_4_29 rfl (lv_at hl 2 rfl) ?_
  refine va_get (D := (dC, dI)) (ci := 15) (v := .ref bv_0) (C := RJ1) (T := TJ1) (N := 4) hx hb hts in_J1 hown hK hP 0 rfl rfl 0 (by decide) (hts _ q269) (fun _ h9 => h9) rfl dJ0_append_4_30 ?_
  have hF9 := va_free (wc := [(bv_0, .inl (dA 2, (cpN bm (n + (sb_dg v))), .inl f_0))]) hD hS (fun q h => hA q h) [1] rfl
  refine c_i (wr := [(sb, .inr (15, [.ref bv_0, .int (nI 0), .int ml, .int (nI n)]))]) (va_runS (As := [.long (lN v), .int (nI (n + (sb_dg v))), .ref bv_0]) (rest := []) ⟨hx, hb, hml, hown, hts⟩ (j28_getChars Z (va_A [(bv_0, .inl (dA 2, (cpN bm (n + (sb_dg v))), .inl f_0))] H.size) H.size (fun q h => Or.inr h) Y2 bv_0 (cpN bm (n + (sb_dg v))) n v f_0 hv (by omega) (by omega)) (va_cwS 3 hts (lw_S q1948 q1949 q144 q1950) rfl rfl rfl (by decide +kernel) ⟨Nat.le_of_ble_eq_true rfl, Nat.le_of_ble_eq_true rfl⟩) (gP_S hG hS (fun q _ h => hF9 q h) ⟨rfl, (hP.sub (ws' := [(bv_0, .inl (dA 2, (cpN bm (n + (sb_dg v))), .inl f_0))]) [1] rfl), (hD.sub (ws' := [(bv_0, .inl (dA 2, (cpN bm (n + (sb_dg v))), .inl f_0))]) [1] (by decide) rfl).self⟩) rfl rfl hl.1 rfl (lv_room (Nat.le_of_ble_eq_true rfl)) dJ0_append_4_33 ⟨by first | decide | omega | (show _ ≤ ((cpN bm (n + sb_dg v) - bm) : Nat); omega), by first | decide | omega | (show _ ≤ ((2 * (cpN bm (n + sb_dg v) - bm)) : Nat); omega)⟩) hP hD hS hA [1] [0] rfl rfl (by decide) (by decide) (fun r9 u9 H locs hq hX hz hk hP hD hS => ?_)
  obtain ⟨r_1, rfl⟩ : ∃ z, z = r9 := ⟨_, rfl⟩
  have hP : va_P (dC, dI) vwCl [(sb, .inr (15, [.ref bv_0, .int (nI 0), .int ml, .int (nI n)])), (bv_0, .inl (dA 2, (cpN bm (n + (sb_dg v))), .inl (gB f_0 n v (sb_dg v))))] H := hP
  have hD : va_D A [(sb, .inr (15, [.ref bv_0, .int (nI 0), .int ml, .int (nI n)])), (bv_0, .inl (dA 2, (cpN bm (n + (sb_dg v))), .inl (gB f_0 n v (sb_dg v))))] := hD
  refine lv_pop hx hb dJ0_append_4_36 rfl ?_
  refine lv_goto (tgt := 52) hx hb dJ0_append_4_37 (by decide) ?_
  refine lv_aload_n hx hb dJ0_append_4_52 rfl (lv_at hl 2 rfl) ?_
  refine lv_iload hx hb dJ0_append_4_53 (lv_at hl 0 rfl) ?_
  refine va_put (D := (dC, dI)) (ci := 15) (v := .int (nI (n + (sb_dg v)))) (ty := .int) (C := RJ1) (T := TJ1) (N := 4) hx hb hts in_J1 tyJ1 tyJ1_ok nmJ1 hown hK hP hD hS 0 rfl rfl 3 (by decide) (hts _ q273) (fun _ h9 => h9) rfl (by decide +kernel) rfl rfl (Nat.le_of_ble_eq_true rfl) dJ0_append_4_55 (fun H locs hP hD hS => ?_)
  have hP : va_P (dC, dI) vwCl [(sb, .inr (15, [.ref bv_0, .int (nI 0), .int ml, .int (nI (n + (sb_dg v)))])), (bv_0, .inl (dA 2, (cpN bm (n + (sb_dg v))), .inl (gB f_0 n v (sb_dg v))))] H := hP
  have hD : va_D A [(sb, .inr (15, [.ref bv_0, .int (nI 0), .int ml, .int (nI (n + (sb_dg v)))])), (bv_0, .inl (dA 2, (cpN bm (n + (sb_dg v))), .inl (gB f_0 n v (sb_dg v))))] := hD
  refine lv_aload_n hx hb dJ0_append_4_58 rfl (lv_at hl 2 rfl) ?_
  subst hQe
  refine W.widen (k := (cpN bm (n + sb_dg v) - bm)) (n := (2 * (cpN bm (n + sb_dg v) - bm))) (by first | decide | omega) (by first | decide | omega) ?_
  exact W.aret (v := .ref sb) hx hb hr (Or.inl ⟨_, rfl⟩) (Or.inr ⟨_, rfl⟩) (fun tz ht hW => ⟨⟨(bv_0, (gB f_0 n v (sb_dg v))), sb, rfl, ⟨gB_O hn (fun j hj => (hu1_0 j (by omega)).trans (hO j hj)), gB_fit hu2_0⟩, B1r_at ht (hP.sub [0, 1] rfl) (hD.sub [0, 1] (by decide) rfl) rfl⟩, hS.F ht⟩) hS.2.2 dJ0_append_4_59
set_option maxHeartbeats 4000000 in
theorem j1_appendJ {l : Launch} {dC : Nat → ClassId} {dI : Nat → Nat → Nat} {dA : Nat → ClassId} {s0 : State} {b0 : Addr} (Z : Z0 l dC dI dA s0 b0) (A : Nat → Prop) (sz : Nat) (hA : ∀ q : Nat, sz ≤ q → A q) {σ : Nat → Nat} {dS : va_G} (Y2 : S2 (dC, dI) dS dA σ s0) (sb bv bm n : Nat) (ml : Int32) (f : Nat → Int32) (L : List Nat) (v : Nat) (hn : L.length = n) (hO : OutH L f) (hf : sb_Fit f) (h2 : n ≤ bm) (h3 : bm ≤ 5000) (hv : v < 1000000000) (h5 : 16 ≤ bm) : Met l yJ1_append_4 (ws_ yJ1_append_4 cJ1_append_4 3 (some (.object "java/lang/StringBuilder"))) ({ frames := 7, cells := (cpN bm (n + sb_dg v) - bm), slots := (2 * (cpN bm (n + sb_dg v) - bm)), locals := 420 } : Room) (gP [.ref sb, .long (lN v)] s0 A (fun H => H.size = sz ∧ va_P (dC, dI) vwCl [(sb, .inr (15, [.ref bv, .int (nI 0), .int ml, .int (nI n)])), (bv, .inl (dA 2, bm, .inl f))] H ∧ va_D A [(sb, .inr (15, [.ref bv, .int (nI 0), .int ml, .int (nI n)])), (bv, .inl (dA 2, bm, .inl f))])) (va_Qr (S := Nat × (Nat → Int32)) (fun u => OutH (L ++ wrN v) u.2 ∧ sb_Fit u.2) (B1r (dC, dI) A (fun u _ => [(sb, .inr (15, [.ref u.1, .int (nI 0), .int ml, .int (nI (n + sb_dg v))])), (u.1, .inl (dA 2, (cpN bm (n + sb_dg v)), .inl u.2))]) (fun _ q _ => q = sb)) A) (cpN bm (n + sb_dg v) - bm) (2 * (cpN bm (n + sb_dg v) - bm)) A := by
  refine Met.ofW (cc := cJ1_append_4) (maxL := 3) (ret := (some (.object "java/lang/StringBuilder"))) (by decide) rfl ?_
  intro p e s m args below meth c s₁ B hml hv
  obtain ⟨hav, hG, hsz, hP, hD⟩ := hv
  have hx := B.exec
  have hb := B.bytes
  have hr := B.returns
  have hts := atoms_spec (ws := (ws_ yJ1_append_4 cJ1_append_4 3 (some (.object "java/lang/StringBuilder")))) B.pre
  have hts : ∀ w ∈ lw_all, w.before _ s = true := fun w h => hts w (List.mem_cons_of_mem _ h)
  have hown : s.vm.findClass RJ1 = some m.cls := findClass_of_methodNamed B.named
  have hlocks := B.notSynchronized
  have hK := hG.K Z
  subst hsz
  have hS : va_S A s.heap s.heap [] := va_S.rf
  have hl := lv_entry ([.ref sb, .long (lN v)]) (n := 3) (Nat.le_of_ble_eq_true rfl)
  rw [show entryFrame m args 3 = entryFrame m ([.ref sb, .long (lN v)] : List Value).toArray 3 from by rw [hav], lg_entry_eq]
  generalize (lg_sl ([.ref sb, .long (lN v)]) ++ List.replicate (3 - (lg_sl ([.ref sb, .long (lN v)])).length) Slot.unset).toArray = ls at hl ⊢
  have hl : lv_has ls 3 [(0, .ref sb), (1, .long (lN v))] := hl
  generalize hQe : MQ below _ _ s _ _ _ = Q
  change W p l e ({ frames := 7, cells := (cpN bm (n + sb_dg v) - bm), slots := (2 * (cpN bm (n + sb_dg v) - bm)), locals := 420 } : Room) s m args below meth c s.heap [] 0 0 Q (F0 m 0 ls [])
  refine lv_aload_n hx hb dJ1_append_4_0 rfl (lv_at hl 0 rfl) ?_
  refine lv_lload_n hx hb dJ1_append_4_1 rfl (lv_at hl 1 rfl) ?_
  have hF9 := va_free (wc := [(sb, .inr (15, [.ref bv, .int (nI 0), .int ml, .int (nI n)])), (bv, .inl (dA 2, bm, .inl f))]) hD hS (fun q h => hA q h) [0, 1] rfl
  refine c_r (wr := []) (va_runSU (hK.1 15 _ rfl).2 (As := [.long (lN v)]) (rest := []) ⟨hx, hb, hml, hown, hts⟩ (j0_appendJ Z (va_A [(sb, .inr (15, [.ref bv, .int (nI 0), .int ml, .int (nI n)])), (bv, .inl (dA 2, bm, .inl f))] s.heap.size) s.heap.size (fun q h => Or.inr h) Y2 sb bv bm n ml f L v hn hO hf  (by omega) (by omega) hv (by omega)) (va_cwSU 1 hts (lw_SU q1940 q2544 q282 q1941 q103 q1942) rfl rfl rfl (by decide +kernel) ⟨Nat.le_of_ble_eq_true rfl, Nat.le_of_ble_eq_true rfl⟩) (gP_V (va_recv hK hP (ci := 15) (q0 := 0) rfl rfl) hG hS (fun q _ h => hF9 q h) ⟨rfl, (hP.sub (ws' := [(sb, .inr (15, [.ref bv, .int (nI 0), .int ml, .int (nI n)])), (bv, .inl (dA 2, bm, .inl f))]) [0, 1] rfl), (hD.sub (ws' := [(sb, .inr (15, [.ref bv, .int (nI 0), .int ml, .int (nI n)])), (bv, .inl (dA 2, bm, .inl f))]) [0, 1] (by decide) rfl).self⟩) rfl rfl hl.1 rfl (lv_room (Nat.le_of_ble_eq_true rfl)) dJ1_append_4_2 ⟨by first | decide | omega | (show _ ≤ ((cpN bm (n + sb_dg v) - bm) : Nat); omega), by first | decide | omega | (show _ ≤ ((2 * (cpN bm (n + sb_dg v) - bm)) : Nat); omega)⟩) hP hD hS hA [0, 1] [] rfl rfl (by decide) (by decide) (fun u9 ra9 H locs hq hX hz hk hP hD hS => ?_)
  obtain ⟨ra_1, rfl⟩ : ∃ z, z = ra9 := ⟨_, rfl⟩
  obtain ⟨bv_1, f_1⟩ := u9
  obtain ⟨hO_1, hf_1⟩ := hq
  refine e_v (y := .ref sb) (congrArg Value.ref hX) ?_
  have hP : va_P (dC, dI) vwCl [(sb, .inr (15, [.ref bv_1, .int (nI 0), .int ml, .int (nI (n + (sb_dg v)))])), (bv_1, .inl (dA 2, (cpN bm (n + (sb_dg v))), .inl f_1))] H := hP
  have hD : va_D A [(sb, .inr (15, [.ref bv_1, .int (nI 0), .int ml, .int (nI (n + (sb_dg v)))])), (bv_1, .inl (dA 2, (cpN bm (n + (sb_dg v))), .inl f_1))] := hD
  refine lv_pop hx hb dJ1_append_4_5 rfl ?_
  refine lv_aload_n hx hb dJ1_append_4_6 rfl (lv_at hl 0 rfl) ?_
  subst hQe
  refine W.widen (k := (cpN bm (n + sb_dg v) - bm)) (n := (2 * (cpN bm (n + sb_dg v) - bm))) (by first | decide | omega) (by first | decide | omega) ?_
  exact W.aret (v := .ref sb) hx hb hr (Or.inl ⟨_, rfl⟩) (Or.inr ⟨_, rfl⟩) (fun tz ht hW => ⟨⟨(bv_1, f_1), sb, rfl, ⟨hO_1, hf_1⟩, B1r_at ht (hP.sub [0, 1] rfl) (hD.sub [0, 1] (by decide) rfl) rfl⟩, hS.F ht⟩) hS.2.2 dJ1_append_4_7
set_option maxHeartbeats 4000000 in
theorem j2_coder {l : Launch} {dC : Nat → ClassId} {dI : Nat → Nat → Nat} {dA : Nat → ClassId} {s0 : State} {b0 : Addr} (Z : Z0 l dC dI dA s0 b0) {σ : Nat → Nat} {dS : va_G} (Y2 : S2 (dC, dI) dS dA σ s0) (st hv sn : Nat) (sf : Nat → Int32) (hT : STR (dC, dI) dS dA st hv sn sf s0) : Met l yJ2_coder (ws_ yJ2_coder cJ2_coder 1 (some (.byte))) ({ frames := 1, cells := 0, slots := 0, locals := 60 } : Room) (gP [.ref st] s0 (fun _ => False) (fun H => True)) (vp_Si (fun r => r = nI 0)) 0 0 (fun _ => False) := by
  refine Met.ofW (cc := cJ2_coder) (maxL := 1) (ret := (some (.byte))) (by decide) rfl ?_
  intro p e s m args below meth c s₁ B hml hv
  obtain ⟨hav, hG, hno⟩ := hv
  have hx := B.exec
  have hb := B.bytes
  have hr := B.returns
  have hts := atoms_spec (ws := (ws_ yJ2_coder cJ2_coder 1 (some (.byte)))) B.pre
  have hts : ∀ w ∈ lw_all, w.before _ s = true := fun w h => hts w (List.mem_cons_of_mem _ h)
  have hown : s.vm.findClass RJ2 = some m.cls := findClass_of_methodNamed B.named
  have hlocks := B.notSynchronized
  have hK := hG.K Z
  have hS : va_S (fun _ => False) s.heap s.heap [] := va_S.rf
  have hP : va_P (dC, dI) vwCl [] s.heap := fun k q h => by simp at h
  have hD : va_D (fun _ => False) [] := ⟨fun i j p q h => by simp at h, fun k q h => by simp at h⟩
  have hl := lv_entry ([.ref st]) (n := 1) (Nat.le_of_ble_eq_true rfl)
  rw [show entryFrame m args 1 = entryFrame m ([.ref st] : List Value).toArray 1 from by rw [hav], lg_entry_eq]
  generalize (lg_sl ([.ref st]) ++ List.replicate (1 - (lg_sl ([.ref st])).length) Slot.unset).toArray = ls at hl ⊢
  have hl : lv_has ls 1 [(0, .ref st)] := hl
  generalize hQe : MQ below _ _ s _ _ _ = Q
  change W p l e ({ frames := 1, cells := 0, slots := 0, locals := 60 } : Room) s m args below meth c s.heap [] 0 0 Q (F0 m 0 ls [])
  have hKs := va_K.moved hG.1.alike (S2.ks Y2)
  obtain ⟨⟨sh0, sz0, hS00⟩, hB00⟩ := id hT
  have hR0 := hG.RO hB00
  refine va_gets (v := .int (nI 1)) hx hb (hG.Z Z Y2.1) hS hown (hts _ q1213) (fun _ h9 => h9) dJ2_coder_0 ?_
  refine lv_if_eq (tgt := 13) hx hb dJ2_coder_3 (by decide) (fun c_3 => ?_) (fun c_3 => ?_)
  · exact absurd c_3 (by decide)
  refine lv_aload_n hx hb dJ2_coder_6 rfl (lv_at hl 0 rfl) ?_
  refine va_get (D := dS) (ci := 0) (v := .int 0) (C := RJ2) (T := TJ2) (N := 4) hx hb hts in_J2 hown hKs (hG.str hS00 hS) 0 rfl rfl 1 (by decide) (hts _ q1587) (fun _ h9 => h9) rfl dJ2_coder_7 ?_
  refine e_i (y := nI 0) (rfl) ?_
  refine lv_goto (tgt := 14) hx hb dJ2_coder_10 (by decide) ?_
  subst hQe
  exact W.zret (v := nI 0) hx hb hr rfl (fun tz ht hW => ⟨_, rfl, rfl, ht⟩) hS.2.2 dJ2_coder_14
set_option maxHeartbeats 4000000 in
theorem j2_length {l : Launch} {dC : Nat → ClassId} {dI : Nat → Nat → Nat} {dA : Nat → ClassId} {s0 : State} {b0 : Addr} (Z : Z0 l dC dI dA s0 b0) {σ : Nat → Nat} {dS : va_G} (Y2 : S2 (dC, dI) dS dA σ s0) (st hv sn : Nat) (sf : Nat → Int32) (hT : STR (dC, dI) dS dA st hv sn sf s0) (h1 : sn ≤ 1000) : Met l yJ2_length (ws_ yJ2_length cJ2_length 1 (some .int)) ({ frames := 2, cells := 0, slots := 0, locals := 120 } : Room) (gP [.ref st] s0 (fun _ => False) (fun H => True)) (vp_Si (fun r => r = nI sn)) 0 0 (fun _ => False) := by
  refine Met.ofW (cc := cJ2_length) (maxL := 1) (ret := (some .int)) (by decide) rfl ?_
  intro p e s m args below meth c s₁ B hml hv
  obtain ⟨hav, hG, hno⟩ := hv
  have hx := B.exec
  have hb := B.bytes
  have hr := B.returns
  have hts := atoms_spec (ws := (ws_ yJ2_length cJ2_length 1 (some .int))) B.pre
  have hts : ∀ w ∈ lw_all, w.before _ s = true := fun w h => hts w (List.mem_cons_of_mem _ h)
  have hown : s.vm.findClass RJ2 = some m.cls := findClass_of_methodNamed B.named
  have hlocks := B.notSynchronized
  have hK := hG.K Z
  have hS : va_S (fun _ => False) s.heap s.heap [] := va_S.rf
  have hP : va_P (dC, dI) vwCl [] s.heap := fun k q h => by simp at h
  have hD : va_D (fun _ => False) [] := ⟨fun i j p q h => by simp at h, fun k q h => by simp at h⟩
  have hl := lv_entry ([.ref st]) (n := 1) (Nat.le_of_ble_eq_true rfl)
  rw [show entryFrame m args 1 = entryFrame m ([.ref st] : List Value).toArray 1 from by rw [hav], lg_entry_eq]
  generalize (lg_sl ([.ref st]) ++ List.replicate (1 - (lg_sl ([.ref st])).length) Slot.unset).toArray = ls at hl ⊢
  have hl : lv_has ls 1 [(0, .ref st)] := hl
  generalize hQe : MQ below _ _ s _ _ _ = Q
  change W p l e ({ frames := 2, cells := 0, slots := 0, locals := 120 } : Room) s m args below meth c s.heap [] 0 0 Q (F0 m 0 ls [])
  have hKs := va_K.moved hG.1.alike (S2.ks Y2)
  obtain ⟨⟨sh0, sz0, hS00⟩, hB00⟩ := id hT
  have hR0 := hG.RO hB00
  refine lv_aload_n hx hb dJ2_length_0 rfl (lv_at hl 0 rfl) ?_
  refine va_get (D := dS) (ci := 0) (v := .ref hv) (C := RJ2) (T := TJ2) (N := 4) hx hb hts in_J2 hown hKs (hG.str hS00 hS) 0 rfl rfl 0 (by decide) (hts _ q1586) (fun _ h9 => h9) rfl dJ2_length_1 ?_
  refine va_alen (v := nI sn) hx hb hK (hR0.up hS) 0 2 rfl rfl rfl dJ2_length_4 ?_
  refine lv_aload_n hx hb dJ2_length_5 rfl (lv_at hl 0 rfl) ?_
  refine s_i (va_runV (As := []) (rest := [.int (nI sn)]) ⟨hx, hb, hml, hown, hts⟩ (j2_coder Z Y2 st hv sn sf hT) (cwV 0 hts (lw_V q1218 q1219 q1220 q105 q1221) rfl rfl rfl (by decide +kernel) ⟨Nat.le_of_ble_eq_true rfl, Nat.le_of_ble_eq_true rfl⟩) (gP_V (va_recv hKs (hG.str hS00 hS) (ci := 0) (q0 := 0) rfl rfl) hG hS (fun q _ h => h.elim) trivial) rfl rfl hl.1 rfl (lv_room (Nat.le_of_ble_eq_true rfl)) dJ2_length_6 ⟨by first | decide | omega | (show _ ≤ (0 : Nat); omega), by first | decide | omega | (show _ ≤ (0 : Nat); omega)⟩) ?_
  refine lv_ishr hx hb dJ2_length_9 ?_
  refine e_i (y := nI (sn / 2 ^ 0)) (n_shr (by omega) (by omega)) ?_
  refine e_i (y := nI sn) (n_eq (by simp)) ?_
  subst hQe
  exact W.iret (v := nI sn) hx hb hr (fun tz ht hW => ⟨_, rfl, rfl, ht⟩) hS.2.2 dJ2_length_10
set_option maxHeartbeats 4000000 in
theorem j2_isLatin1 {l : Launch} {dC : Nat → ClassId} {dI : Nat → Nat → Nat} {dA : Nat → ClassId} {s0 : State} {b0 : Addr} (Z : Z0 l dC dI dA s0 b0) {σ : Nat → Nat} {dS : va_G} (Y2 : S2 (dC, dI) dS dA σ s0) (st hv sn : Nat) (sf : Nat → Int32) (hT : STR (dC, dI) dS dA st hv sn sf s0) : Met l yJ2_isLatin1 (ws_ yJ2_isLatin1 cJ2_isLatin1 1 (some .boolean)) ({ frames := 1, cells := 0, slots := 0, locals := 60 } : Room) (gP [.ref st] s0 (fun _ => False) (fun H => True)) (vp_Si (fun r => r = nI 1)) 0 0 (fun _ => False) := by
  refine Met.ofW (cc := cJ2_isLatin1) (maxL := 1) (ret := (some .boolean)) (by decide) rfl ?_
  intro p e s m args below meth c s₁ B hml hv
  obtain ⟨hav, hG, hno⟩ := hv
  have hx := B.exec
  have hb := B.bytes
  have hr := B.returns
  have hts := atoms_spec (ws := (ws_ yJ2_isLatin1 cJ2_isLatin1 1 (some .boolean))) B.pre
  have hts : ∀ w ∈ lw_all, w.before _ s = true := fun w h => hts w (List.mem_cons_of_mem _ h)
  have hown : s.vm.findClass RJ2 = some m.cls := findClass_of_methodNamed B.named
  have hlocks := B.notSynchronized
  have hK := hG.K Z
  have hS : va_S (fun _ => False) s.heap s.heap [] := va_S.rf
  have hP : va_P (dC, dI) vwCl [] s.heap := fun k q h => by simp at h
  have hD : va_D (fun _ => False) [] := ⟨fun i j p q h => by simp at h, fun k q h => by simp at h⟩
  have hl := lv_entry ([.ref st]) (n := 1) (Nat.le_of_ble_eq_true rfl)
  rw [show entryFrame m args 1 = entryFrame m ([.ref st] : List Value).toArray 1 from by rw [hav], lg_entry_eq]
  generalize (lg_sl ([.ref st]) ++ List.replicate (1 - (lg_sl ([.ref st])).length) Slot.unset).toArray = ls at hl ⊢
  have hl : lv_has ls 1 [(0, .ref st)] := hl
  generalize hQe : MQ below _ _ s _ _ _ = Q
  change W p l e ({ frames := 1, cells := 0, slots := 0, locals := 60 } : Room) s m args below meth c s.heap [] 0 0 Q (F0 m 0 ls [])
  have hKs := va_K.moved hG.1.alike (S2.ks Y2)
  obtain ⟨⟨sh0, sz0, hS00⟩, hB00⟩ := id hT
  have hR0 := hG.RO hB00
  refine va_gets (v := .int (nI 1)) hx hb (hG.Z Z Y2.1) hS hown (hts _ q1213) (fun _ h9 => h9) dJ2_isLatin1_0 ?_
  refine lv_if_eq (tgt := 17) hx hb dJ2_isLatin1_3 (by decide) (fun c_3 => ?_) (fun c_3 => ?_)
  · exact absurd c_3 (by decide)
  refine lv_aload_n hx hb dJ2_isLatin1_6 rfl (lv_at hl 0 rfl) ?_
  refine va_get (D := dS) (ci := 0) (v := .int 0) (C := RJ2) (T := TJ2) (N := 4) hx hb hts in_J2 hown hKs (hG.str hS00 hS) 0 rfl rfl 1 (by decide) (hts _ q1587) (fun _ h9 => h9) rfl dJ2_isLatin1_7 ?_
  refine e_i (y := nI 0) (rfl) ?_
  refine lv_if_ne (tgt := 17) hx hb dJ2_isLatin1_10 (by decide) (fun c_10 => ?_) (fun c_10 => ?_)
  · exact absurd (by decide) c_10
  refine lv_iconst (v := nI 1) hx hb dJ2_isLatin1_13 (by decide) ?_
  refine lv_goto (tgt := 18) hx hb dJ2_isLatin1_14 (by decide) ?_
  subst hQe
  exact W.zret (v := nI 1) hx hb hr rfl (fun tz ht hW => ⟨_, rfl, rfl, ht⟩) hS.2.2 dJ2_isLatin1_18
set_option maxHeartbeats 4000000 in
theorem j2_getBytes {l : Launch} {dC : Nat → ClassId} {dI : Nat → Nat → Nat} {dA : Nat → ClassId} {s0 : State} {b0 : Addr} (Z : Z0 l dC dI dA s0 b0) (A : Nat → Prop) (sz : Nat) (hA : ∀ q : Nat, sz ≤ q → A q) {σ : Nat → Nat} {dS : va_G} (Y2 : S2 (dC, dI) dS dA σ s0) (st hv sn : Nat) (sf : Nat → Int32) (bv bm n : Nat) (f : Nat → Int32) (hT : STR (dC, dI) dS dA st hv sn sf s0) (hsf : sb_Fit sf) (h1 : sn ≤ 1000) (h2 : n + sn ≤ bm) (h3 : bm ≤ 20000) : Met l yJ2_getBytes (ws_ yJ2_getBytes cJ2_getBytes 4 none) ({ frames := 2, cells := 0, slots := 0, locals := 120 } : Room) (gP [.ref st, .ref bv, .int (nI n), .int (nI 0)] s0 A (fun H => H.size = sz ∧ va_P (dC, dI) vwCl [(bv, .inl (dA 2, bm, .inl f))] H ∧ va_D A [(bv, .inl (dA 2, bm, .inl f))])) (va_Qv (S := Unit) (fun _ => True) (B1 (dC, dI) A (fun _ => [(bv, .inl (dA 2, bm, .inl (va_cpy sf f 0 n sn)))]) (fun _ _ => True)) A) 0 0 A := by
  refine Met.ofW (cc := cJ2_getBytes) (maxL := 4) (ret := none) (by decide) rfl ?_
  intro p e s m args below meth c s₁ B hml hv
  obtain ⟨hav, hG, hsz, hP, hD⟩ := hv
  have hx := B.exec
  have hb := B.bytes
  have hr := B.returns
  have hts := atoms_spec (ws := (ws_ yJ2_getBytes cJ2_getBytes 4 none)) B.pre
  have hts : ∀ w ∈ lw_all, w.before _ s = true := fun w h => hts w (List.mem_cons_of_mem _ h)
  have hown : s.vm.findClass RJ2 = some m.cls := findClass_of_methodNamed B.named
  have hlocks := B.notSynchronized
  have hK := hG.K Z
  subst hsz
  have hS : va_S A s.heap s.heap [] := va_S.rf
  have hl := lv_entry ([.ref st, .ref bv, .int (nI n), .int (nI 0)]) (n := 4) (Nat.le_of_ble_eq_true rfl)
  rw [show entryFrame m args 4 = entryFrame m ([.ref st, .ref bv, .int (nI n), .int (nI 0)] : List Value).toArray 4 from by rw [hav], lg_entry_eq]
  generalize (lg_sl ([.ref st, .ref bv, .int (nI n), .int (nI 0)]) ++ List.replicate (4 - (lg_sl ([.ref st, .ref bv, .int (nI n), .int (nI 0)])).length) Slot.unset).toArray = ls at hl ⊢
  have hl : lv_has ls 4 [(0, .ref st), (1, .ref bv), (2, .int (nI n)), (3, .int (nI 0))] := hl
  generalize hQe : MQ below _ _ s _ _ _ = Q
  change W p l e ({ frames := 2, cells := 0, slots := 0, locals := 120 } : Room) s m args below meth c s.heap [] 0 0 Q (F0 m 0 ls [])
  have hKs := va_K.moved hG.1.alike (S2.ks Y2)
  obtain ⟨⟨sh0, sz0, hS00⟩, hB00⟩ := id hT
  have hR0 := hG.RO hB00
  refine lv_aload_n hx hb dJ2_getBytes_0 rfl (lv_at hl 0 rfl) ?_
  refine s_i (va_runV (As := []) (rest := []) ⟨hx, hb, hml, hown, hts⟩ (j2_coder Z Y2 st hv sn sf hT) (cwV 0 hts (lw_V q1218 q1219 q1220 q105 q1221) rfl rfl rfl (by decide +kernel) ⟨Nat.le_of_ble_eq_true rfl, Nat.le_of_ble_eq_true rfl⟩) (gP_V (va_recv hKs (hG.str hS00 hS) (ci := 0) (q0 := 0) rfl rfl) hG hS (fun q _ h => h.elim) trivial) rfl rfl hl.1 rfl (lv_room (Nat.le_of_ble_eq_true rfl)) dJ2_getBytes_1 ⟨by first | decide | omega | (show _ ≤ (0 : Nat); omega), by first | decide | omega | (show _ ≤ (0 : Nat); omega)⟩) ?_
  refine lv_iload_n hx hb dJ2_getBytes_4 rfl (lv_at hl 3 rfl) ?_
  refine lv_icmp_ne (tgt := 28) hx hb dJ2_getBytes_5 (by decide) (fun c_5 => ?_) (fun c_5 => ?_)
  · exact absurd (by decide) c_5
  refine lv_aload_n hx hb dJ2_getBytes_8 rfl (lv_at hl 0 rfl) ?_
  refine va_get (D := dS) (ci := 0) (v := .ref hv) (C := RJ2) (T := TJ2) (N := 4) hx hb hts in_J2 hown hKs (hG.str hS00 hS) 0 rfl rfl 0 (by decide) (hts _ q1586) (fun _ h9 => h9) rfl dJ2_getBytes_9 ?_
  refine lv_iconst (v := nI 0) hx hb dJ2_getBytes_12 (by decide) ?_
  refine lv_aload_n hx hb dJ2_getBytes_13 rfl (lv_at hl 1 rfl) ?_
  refine lv_iload_n hx hb dJ2_getBytes_14 rfl (lv_at hl 2 rfl) ?_
  refine lv_iload_n hx hb dJ2_getBytes_15 rfl (lv_at hl 3 rfl) ?_
  refine lv_ishl hx hb dJ2_getBytes_16 ?_
  refine e_i (y := nI (n * 2 ^ 0)) (n_sh0) ?_
  refine e_i (y := nI n) (n_eq (by simp)) ?_
  refine lv_aload_n hx hb dJ2_getBytes_17 rfl (lv_at hl 0 rfl) ?_
  refine va_get (D := dS) (ci := 0) (v := .ref hv) (C := RJ2) (T := TJ2) (N := 4) hx hb hts in_J2 hown hKs (hG.str hS00 hS) 0 rfl rfl 0 (by decide) (hts _ q1586) (fun _ h9 => h9) rfl dJ2_getBytes_18 ?_
  refine va_alen (v := nI sn) hx hb hK (hR0.up hS) 0 2 rfl rfl rfl dJ2_getBytes_21 ?_
  refine a_copyi hx hb (hml.trans hl.1.symm) hown (hts _ q1506) (hts _ q1461) (hts _ q1460) (hts _ q137) hK (hR0.up hS) hP hD hS 0 0 2 2 rfl (hR0.2 0 _ rfl) rfl rfl rfl rfl (nI_pos (by omega)) (nI_pos (by omega)) (nI_pos (by omega)) (by rw [nI_clamp (by omega), nI_clamp (by omega)]; omega) (by rw [nI_clamp (by omega), nI_clamp (by omega)]; omega) (fun i _ => hsf _) (Nat.le_of_ble_eq_true rfl) (Nat.le_of_ble_eq_true rfl) dJ2_getBytes_22 (fun H locs hP hD hS => ?_)
  have hP : va_P (dC, dI) vwCl [(bv, .inl (dA 2, bm, .inl (va_cpy sf f ((nI 0).toNatClampNeg) ((nI n).toNatClampNeg) ((nI sn).toNatClampNeg))))] H := hP
  have hD : va_D A [(bv, .inl (dA 2, bm, .inl (va_cpy sf f ((nI 0).toNatClampNeg) ((nI n).toNatClampNeg) ((nI sn).toNatClampNeg))))] := hD
  have e9 : (va_cpy sf f ((nI 0).toNatClampNeg) ((nI n).toNatClampNeg) ((nI sn).toNatClampNeg) : Nat → Int32) = (va_cpy sf f 0 n sn) := by rw [nI_clamp (by omega), nI_clamp (by omega), nI_clamp (by omega)]
  rw [e9] at hP hD; clear e9
  refine lv_goto (tgt := 43) hx hb dJ2_getBytes_25 (by decide) ?_
  subst hQe
  exact W.vret hx hb hr (fun tz ht hW => ⟨⟨(), rfl, trivial, B1_at ht (hP.sub [0] rfl) (hD.sub [0] (by decide) rfl) trivial⟩, hS.F ht⟩) hS.2.2 dJ2_getBytes_43
set_option maxHeartbeats 4000000 in
theorem j0_inflateIf {l : Launch} {dC : Nat → ClassId} {dI : Nat → Nat → Nat} {dA : Nat → ClassId} {s0 : State} {b0 : Addr} (Z : Z0 l dC dI dA s0 b0) (A : Nat → Prop) (sz : Nat) (hA : ∀ q : Nat, sz ≤ q → A q) {σ : Nat → Nat} {dS : va_G} (Y2 : S2 (dC, dI) dS dA σ s0) (st hv sn : Nat) (sf : Nat → Int32) (sb bv n : Nat) (ml : Int32) (hT : STR (dC, dI) dS dA st hv sn sf s0) : Met l yJ0_inflateIfNeededFor (ws_ yJ0_inflateIfNeededFor cJ0_inflateIfNeededFor 2 none) ({ frames := 2, cells := 0, slots := 0, locals := 120 } : Room) (gP [.ref sb, .ref st] s0 A (fun H => H.size = sz ∧ va_P (dC, dI) vwCl [(sb, .inr (15, [.ref bv, .int (nI 0), .int ml, .int (nI n)]))] H ∧ va_D A [(sb, .inr (15, [.ref bv, .int (nI 0), .int ml, .int (nI n)]))])) (va_Qv (S := Unit) (fun _ => True) (B1 (dC, dI) A (fun _ => [(sb, .inr (15, [.ref bv, .int (nI 0), .int ml, .int (nI n)]))]) (fun _ _ => True)) A) 0 0 A := by
  refine Met.ofW (cc := cJ0_inflateIfNeededFor) (maxL := 2) (ret := none) (by decide) rfl ?_
  intro p e s m args below meth c s₁ B hml hv
  obtain ⟨hav, hG, hsz, hP, hD⟩ := hv
  have hx := B.exec
  have hb := B.bytes
  have hr := B.returns
  have hts := atoms_spec (ws := (ws_ yJ0_inflateIfNeededFor cJ0_inflateIfNeededFor 2 none)) B.pre
  have hts : ∀ w ∈ lw_all, w.before _ s = true := fun w h => hts w (List.mem_cons_of_mem _ h)
  have hown : s.vm.findClass RJ0 = some m.cls := findClass_of_methodNamed B.named
  have hlocks := B.notSynchronized
  have hK := hG.K Z
  subst hsz
  have hS : va_S A s.heap s.heap [] := va_S.rf
  have hl := lv_entry ([.ref sb, .ref st]) (n := 2) (Nat.le_of_ble_eq_true rfl)
  rw [show entryFrame m args 2 = entryFrame m ([.ref sb, .ref st] : List Value).toArray 2 from by rw [hav], lg_entry_eq]
  generalize (lg_sl ([.ref sb, .ref st]) ++ List.replicate (2 - (lg_sl ([.ref sb, .ref st])).length) Slot.unset).toArray = ls at hl ⊢
  have hl : lv_has ls 2 [(0, .ref sb), (1, .ref st)] := hl
  generalize hQe : MQ below _ _ s _ _ _ = Q
  change W p l e ({ frames := 2, cells := 0, slots := 0, locals := 120 } : Room) s m args below meth c s.heap [] 0 0 Q (F0 m 0 ls [])
  have hKs := va_K.moved hG.1.alike (S2.ks Y2)
  obtain ⟨⟨sh0, sz0, hS00⟩, hB00⟩ := id hT
  have hR0 := hG.RO hB00
  refine va_gets (v := .int (nI 1)) hx hb (hG.Z Z Y2.1) hS hown (hts _ q260) (fun _ h9 => h9) dJ0_inflateIfNeededFor_0 ?_
  refine lv_if_eq (tgt := 21) hx hb dJ0_inflateIfNeededFor_3 (by decide) (fun c_3 => ?_) (fun c_3 => ?_)
  · exact absurd c_3 (by decide)
  refine lv_aload_n hx hb dJ0_inflateIfNeededFor_6 rfl (lv_at hl 0 rfl) ?_
  refine va_get (D := (dC, dI)) (ci := 15) (v := .int (nI 0)) (C := RJ1) (T := TJ1) (N := 4) hx hb hts in_J1 hown hK hP 0 rfl rfl 1 (by decide) (hts _ q270) (fun _ h9 => h9) rfl dJ0_inflateIfNeededFor_7 ?_
  refine lv_aload_n hx hb dJ0_inflateIfNeededFor_10 rfl (lv_at hl 1 rfl) ?_
  refine s_i (va_runV (As := []) (rest := [.int (nI 0)]) ⟨hx, hb, hml, hown, hts⟩ (j2_coder Z Y2 st hv sn sf hT) (cwV 0 hts (lw_V q1482 q1219 q1220 q105 q1221) rfl rfl rfl (by decide +kernel) ⟨Nat.le_of_ble_eq_true rfl, Nat.le_of_ble_eq_true rfl⟩) (gP_V (va_recv hKs (hG.str hS00 hS) (ci := 0) (q0 := 0) rfl rfl) hG hS (fun q _ h => h.elim) trivial) rfl rfl hl.1 rfl (lv_room (Nat.le_of_ble_eq_true rfl)) dJ0_inflateIfNeededFor_11 ⟨by first | decide | omega | (show _ ≤ (0 : Nat); omega), by first | decide | omega | (show _ ≤ (0 : Nat); omega)⟩) ?_
  refine lv_icmp_eq (tgt := 21) hx hb dJ0_inflateIfNeededFor_14 (by decide) (fun c_14 => ?_) (fun c_14 => ?_)
  rotate_left
  · exact absurd (by decide) c_14
  subst hQe
  exact W.vret hx hb hr (fun tz ht hW => ⟨⟨(), rfl, trivial, B1_at ht (hP.sub [0] rfl) (hD.sub [0] (by decide) rfl) trivial⟩, hS.F ht⟩) hS.2.2 dJ0_inflateIfNeededFor_21
set_option maxHeartbeats 4000000 in
theorem j0_putStringAt {l : Launch} {dC : Nat → ClassId} {dI : Nat → Nat → Nat} {dA : Nat → ClassId} {s0 : State} {b0 : Addr} (Z : Z0 l dC dI dA s0 b0) (A : Nat → Prop) (sz : Nat) (hA : ∀ q : Nat, sz ≤ q → A q) {σ : Nat → Nat} {dS : va_G} (Y2 : S2 (dC, dI) dS dA σ s0) (st hv sn : Nat) (sf : Nat → Int32) (sb bv bm n : Nat) (ml : Int32) (f : Nat → Int32) (hT : STR (dC, dI) dS dA st hv sn sf s0) (hsf : sb_Fit sf) (h1 : sn ≤ 1000) (h2 : n + sn ≤ bm) (h3 : bm ≤ 20000) : Met l yJ0_putStringAt (ws_ yJ0_putStringAt cJ0_putStringAt 3 none) ({ frames := 4, cells := 0, slots := 0, locals := 240 } : Room) (gP [.ref sb, .int (nI n), .ref st] s0 A (fun H => H.size = sz ∧ va_P (dC, dI) vwCl [(sb, .inr (15, [.ref bv, .int (nI 0), .int ml, .int (nI n)])), (bv, .inl (dA 2, bm, .inl f))] H ∧ va_D A [(sb, .inr (15, [.ref bv, .int (nI 0), .int ml, .int (nI n)])), (bv, .inl (dA 2, bm, .inl f))])) (va_Qv (S := Unit) (fun _ => True) (B1 (dC, dI) A (fun _ => [(sb, .inr (15, [.ref bv, .int (nI 0), .int ml, .int (nI n)])), (bv, .inl (dA 2, bm, .inl (va_cpy sf f 0 n sn)))]) (fun _ _ => True)) A) 0 0 A := by
  refine Met.ofW (cc := cJ0_putStringAt) (maxL := 3) (ret := none) (by decide) rfl ?_
  intro p e s m args below meth c s₁ B hml hv
  obtain ⟨hav, hG, hsz, hP, hD⟩ := hv
  have hx := B.exec
  have hb := B.bytes
  have hr := B.returns
  have hts := atoms_spec (ws := (ws_ yJ0_putStringAt cJ0_putStringAt 3 none)) B.pre
  have hts : ∀ w ∈ lw_all, w.before _ s = true := fun w h => hts w (List.mem_cons_of_mem _ h)
  have hown : s.vm.findClass RJ0 = some m.cls := findClass_of_methodNamed B.named
  have hlocks := B.notSynchronized
  have hK := hG.K Z
  subst hsz
  have hS : va_S A s.heap s.heap [] := va_S.rf
  have hl := lv_entry ([.ref sb, .int (nI n), .ref st]) (n := 3) (Nat.le_of_ble_eq_true rfl)
  rw [show entryFrame m args 3 = entryFrame m ([.ref sb, .int (nI n), .ref st] : List Value).toArray 3 from by rw [hav], lg_entry_eq]
  generalize (lg_sl ([.ref sb, .int (nI n), .ref st]) ++ List.replicate (3 - (lg_sl ([.ref sb, .int (nI n), .ref st])).length) Slot.unset).toArray = ls at hl ⊢
  have hl : lv_has ls 3 [(0, .ref sb), (1, .int (nI n)), (2, .ref st)] := hl
  generalize hQe : MQ below _ _ s _ _ _ = Q
  change W p l e ({ frames := 4, cells := 0, slots := 0, locals := 240 } : Room) s m args below meth c s.heap [] 0 0 Q (F0 m 0 ls [])
  have hKs := va_K.moved hG.1.alike (S2.ks Y2)
  obtain ⟨⟨sh0, sz0, hS00⟩, hB00⟩ := id hT
  have hR0 := hG.RO hB00
  refine lv_aload_n hx hb dJ0_putStringAt_0 rfl (lv_at hl 0 rfl) ?_
  refine lv_aload_n hx hb dJ0_putStringAt_1 rfl (lv_at hl 2 rfl) ?_
  have hF9 := va_free (wc := [(sb, .inr (15, [.ref bv, .int (nI 0), .int ml, .int (nI n)]))]) hD hS (fun q h => hA q h) [0] rfl
  refine c_v (wr := [(bv, .inl (dA 2, bm, .inl f))]) (va_runV (As := [.ref st]) (rest := []) ⟨hx, hb, hml, hown, hts⟩ (j0_inflateIf Z (va_A [(sb, .inr (15, [.ref bv, .int (nI 0), .int ml, .int (nI n)]))] s.heap.size) s.heap.size (fun q h => Or.inr h) Y2 st hv sn sf sb bv n ml hT) ⟨cb_of 1 hts (lw_meth q1481) rfl rfl rfl (hts _ q1478) (hts _ q103) (by decide +kernel) ⟨Nat.le_of_ble_eq_true rfl, Nat.le_of_ble_eq_true rfl⟩, hts _ q1480, (selZ Z hG q1479 q1480 (by decide) rfl)⟩ (gP_V (va_recv hK hP (ci := 15) (q0 := 0) rfl rfl) hG hS (fun q _ h => hF9 q h) ⟨rfl, (hP.sub (ws' := [(sb, .inr (15, [.ref bv, .int (nI 0), .int ml, .int (nI n)]))]) [0] rfl), (hD.sub (ws' := [(sb, .inr (15, [.ref bv, .int (nI 0), .int ml, .int (nI n)]))]) [0] (by decide) rfl).self⟩) rfl rfl hl.1 rfl (lv_room (Nat.le_of_ble_eq_true rfl)) dJ0_putStringAt_2 ⟨by first | decide | omega | (show _ ≤ (0 : Nat); omega), by first | decide | omega | (show _ ≤ (0 : Nat); omega)⟩) hP hD hS hA [0] [1] rfl rfl (by decide) (by decide) (fun u9 H locs hq hX hz hk hP hD hS => ?_)
  have hP : va_P (dC, dI) vwCl [(bv, .inl (dA 2, bm, .inl f)), (sb, .inr (15, [.ref bv, .int (nI 0), .int ml, .int (nI n)]))] H := hP
  have hD : va_D A [(bv, .inl (dA 2, bm, .inl f)), (sb, .inr (15, [.ref bv, .int (nI 0), .int ml, .int (nI n)]))] := hD
  refine lv_aload_n hx hb dJ0_putStringAt_5 rfl (lv_at hl 2 rfl) ?_
  refine lv_aload_n hx hb dJ0_putStringAt_6 rfl (lv_at hl 0 rfl) ?_
  refine va_get (D := (dC, dI)) (ci := 15) (v := .ref bv) (C := RJ1) (T := TJ1) (N := 4) hx hb hts in_J1 hown hK hP 1 rfl rfl 0 (by decide) (hts _ q269) (fun _ h9 => h9) rfl dJ0_putStringAt_7 ?_
  refine lv_iload_n hx hb dJ0_putStringAt_10 rfl (lv_at hl 1 rfl) ?_
  refine lv_aload_n hx hb dJ0_putStringAt_11 rfl (lv_at hl 0 rfl) ?_
  refine va_get (D := (dC, dI)) (ci := 15) (v := .int (nI 0)) (C := RJ1) (T := TJ1) (N := 4) hx hb hts in_J1 hown hK hP 1 rfl rfl 1 (by decide) (hts _ q270) (fun _ h9 => h9) rfl dJ0_putStringAt_12 ?_
  have hF9 := va_free (wc := [(bv, .inl (dA 2, bm, .inl f))]) hD hS (fun q h => hA q h) [0] rfl
  refine c_v (wr := [(sb, .inr (15, [.ref bv, .int (nI 0), .int ml, .int (nI n)]))]) (va_runV (As := [.ref bv, .int (nI n), .int (nI 0)]) (rest := []) ⟨hx, hb, hml, hown, hts⟩ (j2_getBytes Z (va_A [(bv, .inl (dA 2, bm, .inl f))] H.size) H.size (fun q h => Or.inr h) Y2 st hv sn sf bv bm n f hT hsf (by omega) (by omega) (by omega)) (cwV 3 hts (lw_V q1502 q1503 q1504 q105 q1505) rfl rfl rfl (by decide +kernel) ⟨Nat.le_of_ble_eq_true rfl, Nat.le_of_ble_eq_true rfl⟩) (gP_V (va_recv hKs (hG.str hS00 hS) (ci := 0) (q0 := 0) rfl rfl) hG hS (fun q _ h => hF9 q h) ⟨rfl, (hP.sub (ws' := [(bv, .inl (dA 2, bm, .inl f))]) [0] rfl), (hD.sub (ws' := [(bv, .inl (dA 2, bm, .inl f))]) [0] (by decide) rfl).self⟩) rfl rfl hl.1 rfl (lv_room (Nat.le_of_ble_eq_true rfl)) dJ0_putStringAt_15 ⟨by first | decide | omega | (show _ ≤ (0 : Nat); omega), by first | decide | omega | (show _ ≤ (0 : Nat); omega)⟩) hP hD hS hA [0] [1] rfl rfl (by decide) (by decide) (fun u9 H locs hq hX hz hk hP hD hS => ?_)
  have hP : va_P (dC, dI) vwCl [(sb, .inr (15, [.ref bv, .int (nI 0), .int ml, .int (nI n)])), (bv, .inl (dA 2, bm, .inl (va_cpy sf f 0 n sn)))] H := hP
  have hD : va_D A [(sb, .inr (15, [.ref bv, .int (nI 0), .int ml, .int (nI n)])), (bv, .inl (dA 2, bm, .inl (va_cpy sf f 0 n sn)))] := hD
  subst hQe
  exact W.vret hx hb hr (fun tz ht hW => ⟨⟨(), rfl, trivial, B1_at ht (hP.sub [0, 1] rfl) (hD.sub [0, 1] (by decide) rfl) trivial⟩, hS.F ht⟩) hS.2.2 dJ0_putStringAt_18
set_option maxHeartbeats 4000000 in
theorem j0_appendS {l : Launch} {dC : Nat → ClassId} {dI : Nat → Nat → Nat} {dA : Nat → ClassId} {s0 : State} {b0 : Addr} (Z : Z0 l dC dI dA s0 b0) (A : Nat → Prop) (sz : Nat) (hA : ∀ q : Nat, sz ≤ q → A q) {σ : Nat → Nat} {dS : va_G} (Y2 : S2 (dC, dI) dS dA σ s0) (sb bv bm n : Nat) (ml : Int32) (f : Nat → Int32) (L : List Nat) (st hv sn : Nat) (sf : Nat → Int32) (SL : List Nat) (hn : L.length = n) (hO : OutH L f) (hf : sb_Fit f) (h2 : n ≤ bm) (h3 : bm ≤ 5000) (hT : STR (dC, dI) dS dA st hv sn sf s0) (hsf : sb_Fit sf) (hsl : SL.length = sn) (hsO : OutH SL sf) (h1 : sn ≤ 9) (h5 : 16 ≤ bm) : Met l yJ0_append (ws_ yJ0_append cJ0_append 3 (some (.object "java/lang/AbstractStringBuilder"))) ({ frames := 6, cells := (cpN bm (n + sn) - bm), slots := (2 * (cpN bm (n + sn) - bm)), locals := 360 } : Room) (gP [.ref sb, .ref st] s0 A (fun H => H.size = sz ∧ va_P (dC, dI) vwCl [(sb, .inr (15, [.ref bv, .int (nI 0), .int ml, .int (nI n)])), (bv, .inl (dA 2, bm, .inl f))] H ∧ va_D A [(sb, .inr (15, [.ref bv, .int (nI 0), .int ml, .int (nI n)])), (bv, .inl (dA 2, bm, .inl f))])) (va_Qr (S := Nat × (Nat → Int32)) (fun u => OutH (L ++ SL) u.2 ∧ sb_Fit u.2) (B1r (dC, dI) A (fun u _ => [(sb, .inr (15, [.ref u.1, .int (nI 0), .int ml, .int (nI (n + sn))])), (u.1, .inl (dA 2, (cpN bm (n + sn)), .inl u.2))]) (fun _ q _ => q = sb)) A) (cpN bm (n + sn) - bm) (2 * (cpN bm (n + sn) - bm)) A := by
  refine Met.ofW (cc := cJ0_append) (maxL := 3) (ret := (some (.object "java/lang/AbstractStringBuilder"))) (by decide) rfl ?_
  intro p e s m args below meth c s₁ B hml hv
  obtain ⟨hav, hG, hsz, hP, hD⟩ := hv
  have hx := B.exec
  have hb := B.bytes
  have hr := B.returns
  have hts := atoms_spec (ws := (ws_ yJ0_append cJ0_append 3 (some (.object "java/lang/AbstractStringBuilder")))) B.pre
  have hts : ∀ w ∈ lw_all, w.before _ s = true := fun w h => hts w (List.mem_cons_of_mem _ h)
  have hown : s.vm.findClass RJ0 = some m.cls := findClass_of_methodNamed B.named
  have hlocks := B.notSynchronized
  have hK := hG.K Z
  subst hsz
  have hS : va_S A s.heap s.heap [] := va_S.rf
  have hl := lv_entry ([.ref sb, .ref st]) (n := 3) (Nat.le_of_ble_eq_true rfl)
  rw [show entryFrame m args 3 = entryFrame m ([.ref sb, .ref st] : List Value).toArray 3 from by rw [hav], lg_entry_eq]
  generalize (lg_sl ([.ref sb, .ref st]) ++ List.replicate (3 - (lg_sl ([.ref sb, .ref st])).length) Slot.unset).toArray = ls at hl ⊢
  have hl : lv_has ls 3 [(0, .ref sb), (1, .ref st)] := hl
  generalize hQe : MQ below _ _ s _ _ _ = Q
  change W p l e ({ frames := 6, cells := (cpN bm (n + sn) - bm), slots := (2 * (cpN bm (n + sn) - bm)), locals := 360 } : Room) s m args below meth c s.heap [] 0 0 Q (F0 m 0 ls [])
  have hKs := va_K.moved hG.1.alike (S2.ks Y2)
  obtain ⟨⟨sh0, sz0, hS00⟩, hB00⟩ := id hT
  have hR0 := hG.RO hB00
  have hc1 := cp_ge (m := bm) (N := n + sn)
  have hc2 := cp_bd (m := bm) (N := n + sn)
  have hc3 := cp_gem (m := bm) (N := n + sn)
  refine lv_aload_n hx hb dJ0_append_0 rfl (lv_at hl 1 rfl) ?_
  refine lv_ifnonnull (tgt := 9) hx hb dJ0_append_1 (by decide) ?_
  refine lv_aload_n hx hb dJ0_append_9 rfl (lv_at hl 1 rfl) ?_
  refine s_i (va_runV (As := []) (rest := []) ⟨hx, hb, hml, hown, hts⟩ (j2_length Z Y2 st hv sn sf hT (by omega)) (cwV 0 hts (lw_V q1473 q1215 q1216 q105 q1217) rfl rfl rfl (by decide +kernel) ⟨Nat.le_of_ble_eq_true rfl, Nat.le_of_ble_eq_true rfl⟩) (gP_V (va_recv hKs (hG.str hS00 hS) (ci := 0) (q0 := 0) rfl rfl) hG hS (fun q _ h => h.elim) trivial) rfl rfl hl.1 rfl (lv_room (Nat.le_of_ble_eq_true rfl)) dJ0_append_10 ⟨by first | decide | omega | (show _ ≤ ((cpN bm (n + sn) - bm) : Nat); omega), by first | decide | omega | (show _ ≤ ((2 * (cpN bm (n + sn) - bm)) : Nat); omega)⟩) ?_
  refine lv_istore_n (lv' := [(2, .int (nI sn)), (0, .ref sb), (1, .ref st)]) hx hb dJ0_append_13 rfl hl (by decide) rfl (fun ls hl => ?_)
  refine lv_aload_n hx hb dJ0_append_14 rfl (lv_at hl 1 rfl) ?_
  refine lv_aload_n hx hb dJ0_append_15 rfl (lv_at hl 1 rfl) ?_
  refine va_get (D := (dC, dI)) (ci := 15) (v := .int (nI n)) (C := RJ1) (T := TJ1) (N := 4) hx hb hts in_J1 hown hK hP 0 rfl rfl 3 (by decide) (hts _ q273) (fun _ h9 => h9) rfl dJ0_append_16 ?_
  refine lv_iload_n hx hb dJ0_append_19 rfl (lv_at hl 0 rfl) ?_
  refine lv_iadd hx hb dJ0_append_20 ?_
  refine e_i (y := nI (n + sn)) (nI_add _ _) ?_
  have hF9 := va_free (wc := [(sb, .inr (15, [.ref bv, .int (nI 0), .int ml, .int (nI n)])), (bv, .inl (dA 2, bm, .inl f))]) hD hS (fun q h => hA q h) [0, 1] rfl
  refine c_v (wr := []) (va_runV (As := [.int (nI (n + sn))]) (rest := []) ⟨hx, hb, hml, hown, hts⟩ (j0_ensure Z (va_A [(sb, .inr (15, [.ref bv, .int (nI 0), .int ml, .int (nI n)])), (bv, .inl (dA 2, bm, .inl f))] s.heap.size) s.heap.size (fun q h => Or.inr h) Y2 sb bv bm n (n + sn) ml f (by omega) (by omega) hf) ⟨cb_of 1 hts (lw_meth q1436) rfl rfl rfl (hts _ q1433) (hts _ q103) (by decide +kernel) ⟨Nat.le_of_ble_eq_true rfl, Nat.le_of_ble_eq_true rfl⟩, hts _ q1435, (selZ Z hG q1434 q1435 (by decide) rfl)⟩ (gP_V (va_recv hK hP (ci := 15) (q0 := 0) rfl rfl) hG hS (fun q _ h => hF9 q h) ⟨rfl, (hP.sub (ws' := [(sb, .inr (15, [.ref bv, .int (nI 0), .int ml, .int (nI n)])), (bv, .inl (dA 2, bm, .inl f))]) [0, 1] rfl), (hD.sub (ws' := [(sb, .inr (15, [.ref bv, .int (nI 0), .int ml, .int (nI n)])), (bv, .inl (dA 2, bm, .inl f))]) [0, 1] (by decide) rfl).self⟩) rfl rfl hl.1 rfl (lv_room (Nat.le_of_ble_eq_true rfl)) dJ0_append_21 ⟨by first | decide | omega | (show _ ≤ ((cpN bm (n + sn) - bm) : Nat); omega), by first | decide | omega | (show _ ≤ ((2 * (cpN bm (n + sn) - bm)) : Nat); omega)⟩) hP hD hS hA [0, 1] [] rfl rfl (by decide) (by decide) (fun u9 H locs hq hX hz hk hP hD hS => ?_)
  obtain ⟨bv_1, f_1⟩ := u9
  obtain ⟨hu1_1, hu2_1⟩ := hq
  have hP : va_P (dC, dI) vwCl [(sb, .inr (15, [.ref bv_1, .int (nI 0), .int ml, .int (nI n)])), (bv_1, .inl (dA 2, (cpN bm (n + sn)), .inl f_1))] H := hP
  have hD : va_D A [(sb, .inr (15, [.ref bv_1, .int (nI 0), .int ml, .int (nI n)])), (bv_1, .inl (dA 2, (cpN bm (n + sn)), .inl f_1))] := hD
  refine lv_aload_n hx hb dJ0_append_24 rfl (lv_at hl 1 rfl) ?_
  refine lv_aload_n hx hb dJ0_append_25 rfl (lv_at hl 1 rfl) ?_
  refine va_get (D := (dC, dI)) (ci := 15) (v := .int (nI n)) (C := RJ1) (T := TJ1) (N := 4) hx hb hts in_J1 hown hK hP 0 rfl rfl 3 (by decide) (hts _ q273) (fun _ h9 => h9) rfl dJ0_append_26 ?_
  refine lv_aload_n hx hb dJ0_append_29 rfl (lv_at hl 2 rfl) ?_
  have hF9 := va_free (wc := [(sb, .inr (15, [.ref bv_1, .int (nI 0), .int ml, .int (nI n)])), (bv_1, .inl (dA 2, (cpN bm (n + sn)), .inl f_1))]) hD hS (fun q h => hA q h) [0, 1] rfl
  refine c_v (wr := []) (va_runV (As := [.int (nI n), .ref st]) (rest := []) ⟨hx, hb, hml, hown, hts⟩ (j0_putStringAt Z (va_A [(sb, .inr (15, [.ref bv_1, .int (nI 0), .int ml, .int (nI n)])), (bv_1, .inl (dA 2, (cpN bm (n + sn)), .inl f_1))] H.size) H.size (fun q h => Or.inr h) Y2 st hv sn sf sb bv_1 (cpN bm (n + sn)) n ml f_1 hT hsf (by omega) (by omega) (by omega)) ⟨cb_of 2 hts (lw_meth q1477) rfl rfl rfl (hts _ q1474) (hts _ q103) (by decide +kernel) ⟨Nat.le_of_ble_eq_true rfl, Nat.le_of_ble_eq_true rfl⟩, hts _ q1476, (selZ Z hG q1475 q1476 (by decide) rfl)⟩ (gP_V (va_recv hK hP (ci := 15) (q0 := 0) rfl rfl) hG hS (fun q _ h => hF9 q h) ⟨rfl, (hP.sub (ws' := [(sb, .inr (15, [.ref bv_1, .int (nI 0), .int ml, .int (nI n)])), (bv_1, .inl (dA 2, (cpN bm (n + sn)), .inl f_1))]) [0, 1] rfl), (hD.sub (ws' := [(sb, .inr (15, [.ref bv_1, .int (nI 0), .int ml, .int (nI n)])), (bv_1, .inl (dA 2, (cpN bm (n + sn)), .inl f_1))]) [0, 1] (by decide) rfl).self⟩) rfl rfl hl.1 rfl (lv_room (Nat.le_of_ble_eq_true rfl)) dJ0_append_30 ⟨by first | decide | omega | (show _ ≤ ((cpN bm (n + sn) - bm) : Nat); omega), by first | decide | omega | (show _ ≤ ((2 * (cpN bm (n + sn) - bm)) : Nat); omega)⟩) hP hD hS hA [0, 1] [] rfl rfl (by decide) (by decide) (fun u9 H locs hq hX hz hk hP hD hS => ?_)
  have hP : va_P (dC, dI) vwCl [(sb, .inr (15, [.ref bv_1, .int (nI 0), .int ml, .int (nI n)])), (bv_1, .inl (dA 2, (cpN bm (n + sn)), .inl (va_cpy sf f_1 0 n sn)))] H := hP
  have hD : va_D A [(sb, .inr (15, [.ref bv_1, .int (nI 0), .int ml, .int (nI n)])), (bv_1, .inl (dA 2, (cpN bm (n + sn)), .inl (va_cpy sf f_1 0 n sn)))] := hD
  refine lv_aload_n hx hb dJ0_append_33 rfl (lv_at hl 1 rfl) ?_
  refine lv_dup hx hb dJ0_append_34 rfl ?_
  refine va_get (D := (dC, dI)) (ci := 15) (v := .int (nI n)) (C := RJ1) (T := TJ1) (N := 4) hx hb hts in_J1 hown hK hP 0 rfl rfl 3 (by decide) (hts _ q273) (fun _ h9 => h9) rfl dJ0_append_35 ?_
  refine lv_iload_n hx hb dJ0_append_38 rfl (lv_at hl 0 rfl) ?_
  refine lv_iadd hx hb dJ0_append_39 ?_
  refine e_i (y := nI (n + sn)) (nI_add _ _) ?_
  refine va_put (D := (dC, dI)) (ci := 15) (v := .int (nI (n + sn))) (ty := .int) (C := RJ1) (T := TJ1) (N := 4) hx hb hts in_J1 tyJ1 tyJ1_ok nmJ1 hown hK hP hD hS 0 rfl rfl 3 (by decide) (hts _ q273) (fun _ h9 => h9) rfl (by decide +kernel) rfl rfl (Nat.le_of_ble_eq_true rfl) dJ0_append_40 (fun H locs hP hD hS => ?_)
  have hP : va_P (dC, dI) vwCl [(sb, .inr (15, [.ref bv_1, .int (nI 0), .int ml, .int (nI (n + sn))])), (bv_1, .inl (dA 2, (cpN bm (n + sn)), .inl (va_cpy sf f_1 0 n sn)))] H := hP
  have hD : va_D A [(sb, .inr (15, [.ref bv_1, .int (nI 0), .int ml, .int (nI (n + sn))])), (bv_1, .inl (dA 2, (cpN bm (n + sn)), .inl (va_cpy sf f_1 0 n sn)))] := hD
  refine lv_aload_n hx hb dJ0_append_43 rfl (lv_at hl 1 rfl) ?_
  subst hQe
  refine W.widen (k := (cpN bm (n + sn) - bm)) (n := (2 * (cpN bm (n + sn) - bm))) (by first | decide | omega) (by first | decide | omega) ?_
  exact W.aret (v := .ref sb) hx hb hr (Or.inl ⟨_, rfl⟩) (Or.inr ⟨_, rfl⟩) (fun tz ht hW => ⟨⟨(bv_1, (va_cpy sf f_1 0 n sn)), sb, rfl, ⟨cat_O hn (fun j hj => (hu1_1 j (by omega)).trans (hO j hj)) hsl hsO, sb_fitC hsf hu2_1⟩, B1r_at ht (hP.sub [0, 1] rfl) (hD.sub [0, 1] (by decide) rfl) rfl⟩, hS.F ht⟩) hS.2.2 dJ0_append_44
set_option maxHeartbeats 4000000 in
theorem j1_appendS {l : Launch} {dC : Nat → ClassId} {dI : Nat → Nat → Nat} {dA : Nat → ClassId} {s0 : State} {b0 : Addr} (Z : Z0 l dC dI dA s0 b0) (A : Nat → Prop) (sz : Nat) (hA : ∀ q : Nat, sz ≤ q → A q) {σ : Nat → Nat} {dS : va_G} (Y2 : S2 (dC, dI) dS dA σ s0) (sb bv bm n : Nat) (ml : Int32) (f : Nat → Int32) (L : List Nat) (st hv sn : Nat) (sf : Nat → Int32) (SL : List Nat) (hn : L.length = n) (hO : OutH L f) (hf : sb_Fit f) (h2 : n ≤ bm) (h3 : bm ≤ 5000) (hT : STR (dC, dI) dS dA st hv sn sf s0) (hsf : sb_Fit sf) (hsl : SL.length = sn) (hsO : OutH SL sf) (h1 : sn ≤ 9) (h5 : 16 ≤ bm) : Met l yJ1_append (ws_ yJ1_append cJ1_append 2 (some (.object "java/lang/StringBuilder"))) ({ frames := 7, cells := (cpN bm (n + sn) - bm), slots := (2 * (cpN bm (n + sn) - bm)), locals := 420 } : Room) (gP [.ref sb, .ref st] s0 A (fun H => H.size = sz ∧ va_P (dC, dI) vwCl [(sb, .inr (15, [.ref bv, .int (nI 0), .int ml, .int (nI n)])), (bv, .inl (dA 2, bm, .inl f))] H ∧ va_D A [(sb, .inr (15, [.ref bv, .int (nI 0), .int ml, .int (nI n)])), (bv, .inl (dA 2, bm, .inl f))])) (va_Qr (S := Nat × (Nat → Int32)) (fun u => OutH (L ++ SL) u.2 ∧ sb_Fit u.2) (B1r (dC, dI) A (fun u _ => [(sb, .inr (15, [.ref u.1, .int (nI 0), .int ml, .int (nI (n + sn))])), (u.1, .inl (dA 2, (cpN bm (n + sn)), .inl u.2))]) (fun _ q _ => q = sb)) A) (cpN bm (n + sn) - bm) (2 * (cpN bm (n + sn) - bm)) A := by
  refine Met.ofW (cc := cJ1_append) (maxL := 2) (ret := (some (.object "java/lang/StringBuilder"))) (by decide) rfl ?_
  intro p e s m args below meth c s₁ B hml hv
  obtain ⟨hav, hG, hsz, hP, hD⟩ := hv
  have hx := B.exec
  have hb := B.bytes
  have hr := B.returns
  have hts := atoms_spec (ws := (ws_ yJ1_append cJ1_append 2 (some (.object "java/lang/StringBuilder")))) B.pre
  have hts : ∀ w ∈ lw_all, w.before _ s = true := fun w h => hts w (List.mem_cons_of_mem _ h)
  have hown : s.vm.findClass RJ1 = some m.cls := findClass_of_methodNamed B.named
  have hlocks := B.notSynchronized
  have hK := hG.K Z
  subst hsz
  have hS : va_S A s.heap s.heap [] := va_S.rf
  have hl := lv_entry ([.ref sb, .ref st]) (n := 2) (Nat.le_of_ble_eq_true rfl)
  rw [show entryFrame m args 2 = entryFrame m ([.ref sb, .ref st] : List Value).toArray 2 from by rw [hav], lg_entry_eq]
  generalize (lg_sl ([.ref sb, .ref st]) ++ List.replicate (2 - (lg_sl ([.ref sb, .ref st])).length) Slot.unset).toArray = ls at hl ⊢
  have hl : lv_has ls 2 [(0, .ref sb), (1, .ref st)] := hl
  generalize hQe : MQ below _ _ s _ _ _ = Q
  change W p l e ({ frames := 7, cells := (cpN bm (n + sn) - bm), slots := (2 * (cpN bm (n + sn) - bm)), locals := 420 } : Room) s m args below meth c s.heap [] 0 0 Q (F0 m 0 ls [])
  have hKs := va_K.moved hG.1.alike (S2.ks Y2)
  obtain ⟨⟨sh0, sz0, hS00⟩, hB00⟩ := id hT
  have hR0 := hG.RO hB00
  refine lv_aload_n hx hb dJ1_append_0 rfl (lv_at hl 0 rfl) ?_
  refine lv_aload_n hx hb dJ1_append_1 rfl (lv_at hl 1 rfl) ?_
  have hF9 := va_free (wc := [(sb, .inr (15, [.ref bv, .int (nI 0), .int ml, .int (nI n)])), (bv, .inl (dA 2, bm, .inl f))]) hD hS (fun q h => hA q h) [0, 1] rfl
  refine c_r (wr := []) (va_runSU (hK.1 15 _ rfl).2 (As := [.ref st]) (rest := []) ⟨hx, hb, hml, hown, hts⟩ (j0_appendS Z (va_A [(sb, .inr (15, [.ref bv, .int (nI 0), .int ml, .int (nI n)])), (bv, .inl (dA 2, bm, .inl f))] s.heap.size) s.heap.size (fun q h => Or.inr h) Y2 sb bv bm n ml f L st hv sn sf SL hn hO hf  (by omega) (by omega) hT hsf hsl hsO (by omega) (by omega)) (va_cwSU 1 hts (lw_SU q1426 q2533 q282 q1427 q103 q1428) rfl rfl rfl (by decide +kernel) ⟨Nat.le_of_ble_eq_true rfl, Nat.le_of_ble_eq_true rfl⟩) (gP_V (va_recv hK hP (ci := 15) (q0 := 0) rfl rfl) hG hS (fun q _ h => hF9 q h) ⟨rfl, (hP.sub (ws' := [(sb, .inr (15, [.ref bv, .int (nI 0), .int ml, .int (nI n)])), (bv, .inl (dA 2, bm, .inl f))]) [0, 1] rfl), (hD.sub (ws' := [(sb, .inr (15, [.ref bv, .int (nI 0), .int ml, .int (nI n)])), (bv, .inl (dA 2, bm, .inl f))]) [0, 1] (by decide) rfl).self⟩) rfl rfl hl.1 rfl (lv_room (Nat.le_of_ble_eq_true rfl)) dJ1_append_2 ⟨by first | decide | omega | (show _ ≤ ((cpN bm (n + sn) - bm) : Nat); omega), by first | decide | omega | (show _ ≤ ((2 * (cpN bm (n + sn) - bm)) : Nat); omega)⟩) hP hD hS hA [0, 1] [] rfl rfl (by decide) (by decide) (fun u9 ra9 H locs hq hX hz hk hP hD hS => ?_)
  obtain ⟨ra_2, rfl⟩ : ∃ z, z = ra9 := ⟨_, rfl⟩
  obtain ⟨bv_2, f_2⟩ := u9
  obtain ⟨hO_2, hf_2⟩ := hq
  refine e_v (y := .ref sb) (congrArg Value.ref hX) ?_
  have hP : va_P (dC, dI) vwCl [(sb, .inr (15, [.ref bv_2, .int (nI 0), .int ml, .int (nI (n + sn))])), (bv_2, .inl (dA 2, (cpN bm (n + sn)), .inl f_2))] H := hP
  have hD : va_D A [(sb, .inr (15, [.ref bv_2, .int (nI 0), .int ml, .int (nI (n + sn))])), (bv_2, .inl (dA 2, (cpN bm (n + sn)), .inl f_2))] := hD
  refine lv_pop hx hb dJ1_append_5 rfl ?_
  refine lv_aload_n hx hb dJ1_append_6 rfl (lv_at hl 0 rfl) ?_
  subst hQe
  refine W.widen (k := (cpN bm (n + sn) - bm)) (n := (2 * (cpN bm (n + sn) - bm))) (by first | decide | omega) (by first | decide | omega) ?_
  exact W.aret (v := .ref sb) hx hb hr (Or.inl ⟨_, rfl⟩) (Or.inr ⟨_, rfl⟩) (fun tz ht hW => ⟨⟨(bv_2, f_2), sb, rfl, ⟨hO_2, hf_2⟩, B1r_at ht (hP.sub [0, 1] rfl) (hD.sub [0, 1] (by decide) rfl) rfl⟩, hS.F ht⟩) hS.2.2 dJ1_append_7
set_option maxHeartbeats 4000000 in
theorem j0_setLength {l : Launch} {dC : Nat → ClassId} {dI : Nat → Nat → Nat} {dA : Nat → ClassId} {s0 : State} {b0 : Addr} (Z : Z0 l dC dI dA s0 b0) (A : Nat → Prop) (sz : Nat) (hA : ∀ q : Nat, sz ≤ q → A q) {σ : Nat → Nat} {dS : va_G} (Y2 : S2 (dC, dI) dS dA σ s0) (sb bv bm n : Nat) (ml : Int32) (f : Nat → Int32) (hf : sb_Fit f) (h2 : n ≤ bm) (h3 : bm ≤ 5000) : Met l yJ0_setLength (ws_ yJ0_setLength cJ0_setLength 2 none) ({ frames := 6, cells := 0, slots := 0, locals := 360 } : Room) (gP [.ref sb, .int (nI 0)] s0 A (fun H => H.size = sz ∧ va_P (dC, dI) vwCl [(sb, .inr (15, [.ref bv, .int (nI 0), .int ml, .int (nI n)])), (bv, .inl (dA 2, bm, .inl f))] H ∧ va_D A [(sb, .inr (15, [.ref bv, .int (nI 0), .int ml, .int (nI n)])), (bv, .inl (dA 2, bm, .inl f))])) (va_Qv (S := Nat × Int32 × (Nat → Int32)) (fun u => sb_Fit u.2.2) (B1 (dC, dI) A (fun u => [(sb, .inr (15, [.ref u.1, .int (nI 0), .int u.2.1, .int (nI 0)])), (u.1, .inl (dA 2, bm, .inl u.2.2))]) (fun _ _ => True)) A) 0 0 A := by
  refine Met.ofW (cc := cJ0_setLength) (maxL := 2) (ret := none) (by decide) rfl ?_
  intro p e s m args below meth c s₁ B hml hv
  obtain ⟨hav, hG, hsz, hP, hD⟩ := hv
  have hx := B.exec
  have hb := B.bytes
  have hr := B.returns
  have hts := atoms_spec (ws := (ws_ yJ0_setLength cJ0_setLength 2 none)) B.pre
  have hts : ∀ w ∈ lw_all, w.before _ s = true := fun w h => hts w (List.mem_cons_of_mem _ h)
  have hown : s.vm.findClass RJ0 = some m.cls := findClass_of_methodNamed B.named
  have hlocks := B.notSynchronized
  have hK := hG.K Z
  subst hsz
  have hS : va_S A s.heap s.heap [] := va_S.rf
  have hl := lv_entry ([.ref sb, .int (nI 0)]) (n := 2) (Nat.le_of_ble_eq_true rfl)
  rw [show entryFrame m args 2 = entryFrame m ([.ref sb, .int (nI 0)] : List Value).toArray 2 from by rw [hav], lg_entry_eq]
  generalize (lg_sl ([.ref sb, .int (nI 0)]) ++ List.replicate (2 - (lg_sl ([.ref sb, .int (nI 0)])).length) Slot.unset).toArray = ls at hl ⊢
  have hl : lv_has ls 2 [(0, .ref sb), (1, .int (nI 0))] := hl
  generalize hQe : MQ below _ _ s _ _ _ = Q
  change W p l e ({ frames := 6, cells := 0, slots := 0, locals := 360 } : Room) s m args below meth c s.heap [] 0 0 Q (F0 m 0 ls [])
  have hc0 : cpN bm 0 = bm := cp_le (Nat.zero_le _)
  refine lv_iload_n hx hb dJ0_setLength_0 rfl (lv_at hl 1 rfl) ?_
  refine lv_if_ge (tgt := 13) hx hb dJ0_setLength_1 (by decide) (fun c_1 => ?_) (fun c_1 => ?_)
  rotate_left
  · exact absurd (by decide) c_1
  refine lv_aload_n hx hb dJ0_setLength_13 rfl (lv_at hl 0 rfl) ?_
  refine lv_iload_n hx hb dJ0_setLength_14 rfl (lv_at hl 1 rfl) ?_
  have hF9 := va_free (wc := [(sb, .inr (15, [.ref bv, .int (nI 0), .int ml, .int (nI n)])), (bv, .inl (dA 2, bm, .inl f))]) hD hS (fun q h => hA q h) [0, 1] rfl
  refine c_v (wr := []) (va_runV (As := [.int (nI 0)]) (rest := []) ⟨hx, hb, hml, hown, hts⟩ (j0_ensure Z (va_A [(sb, .inr (15, [.ref bv, .int (nI 0), .int ml, .int (nI n)])), (bv, .inl (dA 2, bm, .inl f))] s.heap.size) s.heap.size (fun q h => Or.inr h) Y2 sb bv bm n 0 ml f (by omega) (by omega) hf) ⟨cb_of 1 hts (lw_meth q1436) rfl rfl rfl (hts _ q1433) (hts _ q103) (by decide +kernel) ⟨Nat.le_of_ble_eq_true rfl, Nat.le_of_ble_eq_true rfl⟩, hts _ q1435, (selZ Z hG q1434 q1435 (by decide) rfl)⟩ (gP_V (va_recv hK hP (ci := 15) (q0 := 0) rfl rfl) hG hS (fun q _ h => hF9 q h) ⟨rfl, (hP.sub (ws' := [(sb, .inr (15, [.ref bv, .int (nI 0), .int ml, .int (nI n)])), (bv, .inl (dA 2, bm, .inl f))]) [0, 1] rfl), (hD.sub (ws' := [(sb, .inr (15, [.ref bv, .int (nI 0), .int ml, .int (nI n)])), (bv, .inl (dA 2, bm, .inl f))]) [0, 1] (by decide) rfl).self⟩) rfl rfl hl.1 rfl (lv_room (Nat.le_of_ble_eq_true rfl)) dJ0_setLength_15 ⟨by first | decide | omega | (show _ ≤ (0 : Nat); omega), by first | decide | omega | (show _ ≤ (0 : Nat); omega)⟩) hP hD hS hA [0, 1] [] rfl rfl (by decide) (by decide) (fun u9 H locs hq hX hz hk hP hD hS => ?_)
  obtain ⟨bv_0, f_0⟩ := u9
  obtain ⟨hu1_0, hu2_0⟩ := hq
  have hP : va_P (dC, dI) vwCl [(sb, .inr (15, [.ref bv_0, .int (nI 0), .int ml, .int (nI n)])), (bv_0, .inl (dA 2, (cpN bm 0), .inl f_0))] H := hP
  have hD : va_D A [(sb, .inr (15, [.ref bv_0, .int (nI 0), .int ml, .int (nI n)])), (bv_0, .inl (dA 2, (cpN bm 0), .inl f_0))] := hD
  rw [hc0] at hP hD
  have hP : va_P (dC, dI) vwCl [(sb, .inr (15, [.ref bv_0, .int (nI 0), .int ml, .int (nI n)])), (bv_0, .inl (dA 2, bm, .inl f_0))] H := hP
  have hD : va_D A [(sb, .inr (15, [.ref bv_0, .int (nI 0), .int ml, .int (nI n)])), (bv_0, .inl (dA 2, bm, .inl f_0))] := hD
  refine e_w 0 0 (by omega) (by omega) ?_
  refine lv_aload_n hx hb dJ0_setLength_18 rfl (lv_at hl 0 rfl) ?_
  refine va_get (D := (dC, dI)) (ci := 15) (v := .int (nI n)) (C := RJ1) (T := TJ1) (N := 4) hx hb hts in_J1 hown hK hP 0 rfl rfl 3 (by decide) (hts _ q273) (fun _ h9 => h9) rfl dJ0_setLength_19 ?_
  refine lv_iload_n hx hb dJ0_setLength_22 rfl (lv_at hl 1 rfl) ?_
  refine lv_icmp_ge (tgt := 63) hx hb dJ0_setLength_23 (by decide) (fun c_23 => ?_) (fun c_23 => ?_)
  · have c_23 : 0 ≤ n := (nI_leI (a := 0) (b := n) (by omega) (by omega)).mp c_23
    refine lv_aload_n hx hb dJ0_setLength_63 rfl (lv_at hl 0 rfl) ?_
    refine va_get (D := (dC, dI)) (ci := 15) (v := .int (nI n)) (C := RJ1) (T := TJ1) (N := 4) hx hb hts in_J1 hown hK hP 0 rfl rfl 3 (by decide) (hts _ q273) (fun _ h9 => h9) rfl dJ0_setLength_64 ?_
    refine lv_iload_n hx hb dJ0_setLength_67 rfl (lv_at hl 1 rfl) ?_
    refine lv_icmp_le (tgt := 76) hx hb dJ0_setLength_68 (by decide) (fun c_68 => ?_) (fun c_68 => ?_)
    · have c_68 : n ≤ 0 := (nI_leI (a := n) (b := 0) (by omega) (by omega)).mp c_68
      refine lv_aload_n hx hb dJ0_setLength_76 rfl (lv_at hl 0 rfl) ?_
      refine lv_iload_n hx hb dJ0_setLength_77 rfl (lv_at hl 1 rfl) ?_
      refine va_put (D := (dC, dI)) (ci := 15) (v := .int (nI 0)) (ty := .int) (C := RJ1) (T := TJ1) (N := 4) hx hb hts in_J1 tyJ1 tyJ1_ok nmJ1 hown hK hP hD hS 0 rfl rfl 3 (by decide) (hts _ q273) (fun _ h9 => h9) rfl (by decide +kernel) rfl rfl (Nat.le_of_ble_eq_true rfl) dJ0_setLength_78 (fun H locs hP hD hS => ?_)
      have hP : va_P (dC, dI) vwCl [(sb, .inr (15, [.ref bv_0, .int (nI 0), .int ml, .int (nI 0)])), (bv_0, .inl (dA 2, bm, .inl f_0))] H := hP
      have hD : va_D A [(sb, .inr (15, [.ref bv_0, .int (nI 0), .int ml, .int (nI 0)])), (bv_0, .inl (dA 2, bm, .inl f_0))] := hD
      subst hQe
      exact W.vret hx hb hr (fun tz ht hW => ⟨⟨(bv_0, ml, f_0), rfl, hu2_0, B1_at ht (hP.sub [0, 1] rfl) (hD.sub [0, 1] (by decide) rfl) trivial⟩, hS.F ht⟩) hS.2.2 dJ0_setLength_81
    · have c_68 : ¬ n ≤ 0 := fun h => c_68 ((nI_leI (a := n) (b := 0) (by omega) (by omega)).mpr h)
      refine lv_aload_n hx hb dJ0_setLength_71 rfl (lv_at hl 0 rfl) ?_
      refine lv_iconst (v := nI 1) hx hb dJ0_setLength_72 (by decide) ?_
      refine va_put (D := (dC, dI)) (ci := 15) (v := .int (nI 1)) (ty := .boolean) (C := RJ1) (T := TJ1) (N := 4) hx hb hts in_J1 tyJ1 tyJ1_ok nmJ1 hown hK hP hD hS 0 rfl rfl 2 (by decide) (hts _ q271) (fun _ h9 => h9) rfl (by decide +kernel) rfl rfl (Nat.le_of_ble_eq_true rfl) dJ0_setLength_73 (fun H locs hP hD hS => ?_)
      have hP : va_P (dC, dI) vwCl [(sb, .inr (15, [.ref bv_0, .int (nI 0), .int (nI 1), .int (nI n)])), (bv_0, .inl (dA 2, bm, .inl f_0))] H := hP
      have hD : va_D A [(sb, .inr (15, [.ref bv_0, .int (nI 0), .int (nI 1), .int (nI n)])), (bv_0, .inl (dA 2, bm, .inl f_0))] := hD
      refine lv_aload_n hx hb dJ0_setLength_76 rfl (lv_at hl 0 rfl) ?_
      refine lv_iload_n hx hb dJ0_setLength_77 rfl (lv_at hl 1 rfl) ?_
      refine va_put (D := (dC, dI)) (ci := 15) (v := .int (nI 0)) (ty := .int) (C := RJ1) (T := TJ1) (N := 4) hx hb hts in_J1 tyJ1 tyJ1_ok nmJ1 hown hK hP hD hS 0 rfl rfl 3 (by decide) (hts _ q273) (fun _ h9 => h9) rfl (by decide +kernel) rfl rfl (Nat.le_of_ble_eq_true rfl) dJ0_setLength_78 (fun H locs hP hD hS => ?_)
      have hP : va_P (dC, dI) vwCl [(sb, .inr (15, [.ref bv_0, .int (nI 0), .int (nI 1), .int (nI 0)])), (bv_0, .inl (dA 2, bm, .inl f_0))] H := hP
      have hD : va_D A [(sb, .inr (15, [.ref bv_0, .int (nI 0), .int (nI 1), .int (nI 0)])), (bv_0, .inl (dA 2, bm, .inl f_0))] := hD
      subst hQe
      exact W.vret hx hb hr (fun tz ht hW => ⟨⟨(bv_0, (nI 1), f_0), rfl, hu2_0, B1_at ht (hP.sub [0, 1] rfl) (hD.sub [0, 1] (by decide) rfl) trivial⟩, hS.F ht⟩) hS.2.2 dJ0_setLength_81
  · have c_23 : ¬ 0 ≤ n := fun h => c_23 ((nI_leI (a := 0) (b := n) (by omega) (by omega)).mpr h)
    exfalso; omega
set_option maxHeartbeats 4000000 in
theorem j1_setLength {l : Launch} {dC : Nat → ClassId} {dI : Nat → Nat → Nat} {dA : Nat → ClassId} {s0 : State} {b0 : Addr} (Z : Z0 l dC dI dA s0 b0) (A : Nat → Prop) (sz : Nat) (hA : ∀ q : Nat, sz ≤ q → A q) {σ : Nat → Nat} {dS : va_G} (Y2 : S2 (dC, dI) dS dA σ s0) (sb bv bm n : Nat) (ml : Int32) (f : Nat → Int32) (hf : sb_Fit f) (h2 : n ≤ bm) (h3 : bm ≤ 5000) : Met l yJ1_setLength (ws_ yJ1_setLength cJ1_setLength 2 none) ({ frames := 7, cells := 0, slots := 0, locals := 420 } : Room) (gP [.ref sb, .int (nI 0)] s0 A (fun H => H.size = sz ∧ va_P (dC, dI) vwCl [(sb, .inr (15, [.ref bv, .int (nI 0), .int ml, .int (nI n)])), (bv, .inl (dA 2, bm, .inl f))] H ∧ va_D A [(sb, .inr (15, [.ref bv, .int (nI 0), .int ml, .int (nI n)])), (bv, .inl (dA 2, bm, .inl f))])) (va_Qv (S := Nat × Int32 × (Nat → Int32)) (fun u => sb_Fit u.2.2) (B1 (dC, dI) A (fun u => [(sb, .inr (15, [.ref u.1, .int (nI 0), .int u.2.1, .int (nI 0)])), (u.1, .inl (dA 2, bm, .inl u.2.2))]) (fun _ _ => True)) A) 0 0 A := by
  refine Met.ofW (cc := cJ1_setLength) (maxL := 2) (ret := none) (by decide) rfl ?_
  intro p e s m args below meth c s₁ B hml hv
  obtain ⟨hav, hG, hsz, hP, hD⟩ := hv
  have hx := B.exec
  have hb := B.bytes
  have hr := B.returns
  have hts := atoms_spec (ws := (ws_ yJ1_setLength cJ1_setLength 2 none)) B.pre
  have hts : ∀ w ∈ lw_all, w.before _ s = true := fun w h => hts w (List.mem_cons_of_mem _ h)
  have hown : s.vm.findClass RJ1 = some m.cls := findClass_of_methodNamed B.named
  have hlocks := B.notSynchronized
  have hK := hG.K Z
  subst hsz
  have hS : va_S A s.heap s.heap [] := va_S.rf
  have hl := lv_entry ([.ref sb, .int (nI 0)]) (n := 2) (Nat.le_of_ble_eq_true rfl)
  rw [show entryFrame m args 2 = entryFrame m ([.ref sb, .int (nI 0)] : List Value).toArray 2 from by rw [hav], lg_entry_eq]
  generalize (lg_sl ([.ref sb, .int (nI 0)]) ++ List.replicate (2 - (lg_sl ([.ref sb, .int (nI 0)])).length) Slot.unset).toArray = ls at hl ⊢
  have hl : lv_has ls 2 [(0, .ref sb), (1, .int (nI 0))] := hl
  generalize hQe : MQ below _ _ s _ _ _ = Q
  change W p l e ({ frames := 7, cells := 0, slots := 0, locals := 420 } : Room) s m args below meth c s.heap [] 0 0 Q (F0 m 0 ls [])
  refine lv_aload_n hx hb dJ1_setLength_0 rfl (lv_at hl 0 rfl) ?_
  refine lv_iload_n hx hb dJ1_setLength_1 rfl (lv_at hl 1 rfl) ?_
  have hF9 := va_free (wc := [(sb, .inr (15, [.ref bv, .int (nI 0), .int ml, .int (nI n)])), (bv, .inl (dA 2, bm, .inl f))]) hD hS (fun q h => hA q h) [0, 1] rfl
  refine c_v (wr := []) (va_runSU (hK.1 15 _ rfl).2 (As := [.int (nI 0)]) (rest := []) ⟨hx, hb, hml, hown, hts⟩ (j0_setLength Z (va_A [(sb, .inr (15, [.ref bv, .int (nI 0), .int ml, .int (nI n)])), (bv, .inl (dA 2, bm, .inl f))] s.heap.size) s.heap.size (fun q h => Or.inr h) Y2 sb bv bm n ml f hf (by omega) (by omega)) (va_cwSU 1 hts (lw_SU q1851 q2541 q282 q1852 q103 q1853) rfl rfl rfl (by decide +kernel) ⟨Nat.le_of_ble_eq_true rfl, Nat.le_of_ble_eq_true rfl⟩) (gP_V (va_recv hK hP (ci := 15) (q0 := 0) rfl rfl) hG hS (fun q _ h => hF9 q h) ⟨rfl, (hP.sub (ws' := [(sb, .inr (15, [.ref bv, .int (nI 0), .int ml, .int (nI n)])), (bv, .inl (dA 2, bm, .inl f))]) [0, 1] rfl), (hD.sub (ws' := [(sb, .inr (15, [.ref bv, .int (nI 0), .int ml, .int (nI n)])), (bv, .inl (dA 2, bm, .inl f))]) [0, 1] (by decide) rfl).self⟩) rfl rfl hl.1 rfl (lv_room (Nat.le_of_ble_eq_true rfl)) dJ1_setLength_2 ⟨by first | decide | omega | (show _ ≤ (0 : Nat); omega), by first | decide | omega | (show _ ≤ (0 : Nat); omega)⟩) hP hD hS hA [0, 1] [] rfl rfl (by decide) (by decide) (fun u9 H locs hq hX hz hk hP hD hS => ?_)
  obtain ⟨bv_0, ml_0, f_0⟩ := u9
  have hf_0 := hq
  clear hq
  have hP : va_P (dC, dI) vwCl [(sb, .inr (15, [.ref bv_0, .int (nI 0), .int ml_0, .int (nI 0)])), (bv_0, .inl (dA 2, bm, .inl f_0))] H := hP
  have hD : va_D A [(sb, .inr (15, [.ref bv_0, .int (nI 0), .int ml_0, .int (nI 0)])), (bv_0, .inl (dA 2, bm, .inl f_0))] := hD
  subst hQe
  exact W.vret hx hb hr (fun tz ht hW => ⟨⟨(bv_0, ml_0, f_0), rfl, hf_0, B1_at ht (hP.sub [0, 1] rfl) (hD.sub [0, 1] (by decide) rfl) trivial⟩, hS.F ht⟩) hS.2.2 dJ1_setLength_5
set_option maxHeartbeats 4000000 in
theorem j0_length {l : Launch} {dC : Nat → ClassId} {dI : Nat → Nat → Nat} {dA : Nat → ClassId} {s0 : State} {b0 : Addr} (Z : Z0 l dC dI dA s0 b0) {σ : Nat → Nat} {dS : va_G} (Y2 : S2 (dC, dI) dS dA σ s0) (sb bv n : Nat) (ml : Int32) : Met l yJ0_length (ws_ yJ0_length cJ0_length 1 (some .int)) ({ frames := 1, cells := 0, slots := 0, locals := 60 } : Room) (gP [.ref sb] s0 (fun _ => False) (fun H => va_P (dC, dI) vwCl [(sb, .inr (15, [.ref bv, .int (nI 0), .int ml, .int (nI n)]))] H)) (vp_Si (fun r => r = nI n)) 0 0 (fun _ => False) := by
  refine Met.ofW (cc := cJ0_length) (maxL := 1) (ret := (some .int)) (by decide) rfl ?_
  intro p e s m args below meth c s₁ B hml hv
  obtain ⟨hav, hG, hP⟩ := hv
  have hx := B.exec
  have hb := B.bytes
  have hr := B.returns
  have hts := atoms_spec (ws := (ws_ yJ0_length cJ0_length 1 (some .int))) B.pre
  have hts : ∀ w ∈ lw_all, w.before _ s = true := fun w h => hts w (List.mem_cons_of_mem _ h)
  have hown : s.vm.findClass RJ0 = some m.cls := findClass_of_methodNamed B.named
  have hlocks := B.notSynchronized
  have hK := hG.K Z
  have hS : va_S (fun _ => False) s.heap s.heap [] := va_S.rf
  have hl := lv_entry ([.ref sb]) (n := 1) (Nat.le_of_ble_eq_true rfl)
  rw [show entryFrame m args 1 = entryFrame m ([.ref sb] : List Value).toArray 1 from by rw [hav], lg_entry_eq]
  generalize (lg_sl ([.ref sb]) ++ List.replicate (1 - (lg_sl ([.ref sb])).length) Slot.unset).toArray = ls at hl ⊢
  have hl : lv_has ls 1 [(0, .ref sb)] := hl
  generalize hQe : MQ below _ _ s _ _ _ = Q
  change W p l e ({ frames := 1, cells := 0, slots := 0, locals := 60 } : Room) s m args below meth c s.heap [] 0 0 Q (F0 m 0 ls [])
  refine lv_aload_n hx hb dJ0_length_0 rfl (lv_at hl 0 rfl) ?_
  refine va_get (D := (dC, dI)) (ci := 15) (v := .int (nI n)) (C := RJ1) (T := TJ1) (N := 4) hx hb hts in_J1 hown hK hP 0 rfl rfl 3 (by decide) (hts _ q273) (fun _ h9 => h9) rfl dJ0_length_1 ?_
  subst hQe
  exact W.iret (v := nI n) hx hb hr (fun tz ht hW => ⟨_, rfl, rfl, ht⟩) hS.2.2 dJ0_length_4
set_option maxHeartbeats 4000000 in
theorem j1_length {l : Launch} {dC : Nat → ClassId} {dI : Nat → Nat → Nat} {dA : Nat → ClassId} {s0 : State} {b0 : Addr} (Z : Z0 l dC dI dA s0 b0) {σ : Nat → Nat} {dS : va_G} (Y2 : S2 (dC, dI) dS dA σ s0) (sb bv n : Nat) (ml : Int32) : Met l yJ1_length (ws_ yJ1_length cJ1_length 1 (some .int)) ({ frames := 2, cells := 0, slots := 0, locals := 120 } : Room) (gP [.ref sb] s0 (fun _ => False) (fun H => va_P (dC, dI) vwCl [(sb, .inr (15, [.ref bv, .int (nI 0), .int ml, .int (nI n)]))] H)) (vp_Si (fun r => r = nI n)) 0 0 (fun _ => False) := by
  refine Met.ofW (cc := cJ1_length) (maxL := 1) (ret := (some .int)) (by decide) rfl ?_
  intro p e s m args below meth c s₁ B hml hv
  obtain ⟨hav, hG, hP⟩ := hv
  have hx := B.exec
  have hb := B.bytes
  have hr := B.returns
  have hts := atoms_spec (ws := (ws_ yJ1_length cJ1_length 1 (some .int))) B.pre
  have hts : ∀ w ∈ lw_all, w.before _ s = true := fun w h => hts w (List.mem_cons_of_mem _ h)
  have hown : s.vm.findClass RJ1 = some m.cls := findClass_of_methodNamed B.named
  have hlocks := B.notSynchronized
  have hK := hG.K Z
  have hS : va_S (fun _ => False) s.heap s.heap [] := va_S.rf
  have hl := lv_entry ([.ref sb]) (n := 1) (Nat.le_of_ble_eq_true rfl)
  rw [show entryFrame m args 1 = entryFrame m ([.ref sb] : List Value).toArray 1 from by rw [hav], lg_entry_eq]
  generalize (lg_sl ([.ref sb]) ++ List.replicate (1 - (lg_sl ([.ref sb])).length) Slot.unset).toArray = ls at hl ⊢
  have hl : lv_has ls 1 [(0, .ref sb)] := hl
  generalize hQe : MQ below _ _ s _ _ _ = Q
  change W p l e ({ frames := 2, cells := 0, slots := 0, locals := 120 } : Room) s m args below meth c s.heap [] 0 0 Q (F0 m 0 ls [])
  refine lv_aload_n hx hb dJ1_length_0 rfl (lv_at hl 0 rfl) ?_
  refine s_i (va_runSU (hK.1 15 _ rfl).2 (As := []) (rest := []) ⟨hx, hb, hml, hown, hts⟩ (j0_length Z Y2 sb bv n ml) (va_cwSU 0 hts (lw_SU q1556 q1552 q282 q1551 q103 q1557) rfl rfl rfl (by decide +kernel) ⟨Nat.le_of_ble_eq_true rfl, Nat.le_of_ble_eq_true rfl⟩) (gP_V (va_recv hK hP (ci := 15) (q0 := 0) rfl rfl) hG hS (fun q _ h => h.elim) (hP.sub (ws' := [(sb, .inr (15, [.ref bv, .int (nI 0), .int ml, .int (nI n)]))]) [0] rfl)) rfl rfl hl.1 rfl (lv_room (Nat.le_of_ble_eq_true rfl)) dJ1_length_1 ⟨by first | decide | omega | (show _ ≤ (0 : Nat); omega), by first | decide | omega | (show _ ≤ (0 : Nat); omega)⟩) ?_
  subst hQe
  exact W.iret (v := nI n) hx hb hr (fun tz ht hW => ⟨_, rfl, rfl, ht⟩) hS.2.2 dJ1_length_4
set_option maxHeartbeats 4000000 in
theorem j16_checkIndex {l : Launch} {dC : Nat → ClassId} {dI : Nat → Nat → Nat} {dA : Nat → ClassId} {s0 : State} {b0 : Addr} (Z : Z0 l dC dI dA s0 b0) {σ : Nat → Nat} {dS : va_G} (Y2 : S2 (dC, dI) dS dA σ s0) (ci cn ob : Nat) (h1 : ci < cn) (h2 : cn < 2 ^ 31) : Met l yJ16_checkIndex (ws_ yJ16_checkIndex cJ16_checkIndex 3 (some .int)) ({ frames := 1, cells := 0, slots := 0, locals := 60 } : Room) (gP [.int (nI ci), .int (nI cn), .ref ob] s0 (fun _ => False) (fun H => True)) (vp_Si (fun r => r = nI ci)) 0 0 (fun _ => False) := by
  refine Met.ofW (cc := cJ16_checkIndex) (maxL := 3) (ret := (some .int)) (by decide) rfl ?_
  intro p e s m args below meth c s₁ B hml hv
  obtain ⟨hav, hG, hno⟩ := hv
  have hx := B.exec
  have hb := B.bytes
  have hr := B.returns
  have hts := atoms_spec (ws := (ws_ yJ16_checkIndex cJ16_checkIndex 3 (some .int))) B.pre
  have hts : ∀ w ∈ lw_all, w.before _ s = true := fun w h => hts w (List.mem_cons_of_mem _ h)
  have hown : s.vm.findClass RJ16 = some m.cls := findClass_of_methodNamed B.named
  have hlocks := B.notSynchronized
  have hK := hG.K Z
  have hS : va_S (fun _ => False) s.heap s.heap [] := va_S.rf
  have hP : va_P (dC, dI) vwCl [] s.heap := fun k q h => by simp at h
  have hD : va_D (fun _ => False) [] := ⟨fun i j p q h => by simp at h, fun k q h => by simp at h⟩
  have hl := lv_entry ([.int (nI ci), .int (nI cn), .ref ob]) (n := 3) (Nat.le_of_ble_eq_true rfl)
  rw [show entryFrame m args 3 = entryFrame m ([.int (nI ci), .int (nI cn), .ref ob] : List Value).toArray 3 from by rw [hav], lg_entry_eq]
  generalize (lg_sl ([.int (nI ci), .int (nI cn), .ref ob]) ++ List.replicate (3 - (lg_sl ([.int (nI ci), .int (nI cn), .ref ob])).length) Slot.unset).toArray = ls at hl ⊢
  have hl : lv_has ls 3 [(0, .int (nI ci)), (1, .int (nI cn)), (2, .ref ob)] := hl
  generalize hQe : MQ below _ _ s _ _ _ = Q
  change W p l e ({ frames := 1, cells := 0, slots := 0, locals := 60 } : Room) s m args below meth c s.heap [] 0 0 Q (F0 m 0 ls [])
  refine lv_iload_n hx hb dJ16_checkIndex_0 rfl (lv_at hl 0 rfl) ?_
  refine lv_if_lt (tgt := 9) hx hb dJ16_checkIndex_1 (by decide) (fun c_1 => ?_) (fun c_1 => ?_)
  · have c_1 : ci < 0 := (nI_ltI (a := ci) (b := 0) (by omega) (by omega)).mp c_1
    exfalso; omega
  · have c_1 : ¬ ci < 0 := fun h => c_1 ((nI_ltI (a := ci) (b := 0) (by omega) (by omega)).mpr h)
    refine lv_iload_n hx hb dJ16_checkIndex_4 rfl (lv_at hl 0 rfl) ?_
    refine lv_iload_n hx hb dJ16_checkIndex_5 rfl (lv_at hl 1 rfl) ?_
    refine lv_icmp_lt (tgt := 16) hx hb dJ16_checkIndex_6 (by decide) (fun c_6 => ?_) (fun c_6 => ?_)
    · have c_6 : ci < cn := (nI_ltI (a := ci) (b := cn) (by omega) (by omega)).mp c_6
      refine lv_iload_n hx hb dJ16_checkIndex_16 rfl (lv_at hl 0 rfl) ?_
      subst hQe
      exact W.iret (v := nI ci) hx hb hr (fun tz ht hW => ⟨_, rfl, rfl, ht⟩) hS.2.2 dJ16_checkIndex_17
    · have c_6 : ¬ ci < cn := fun h => c_6 ((nI_ltI (a := ci) (b := cn) (by omega) (by omega)).mpr h)
      exfalso; omega
set_option maxHeartbeats 4000000 in
theorem j2_checkIndex {l : Launch} {dC : Nat → ClassId} {dI : Nat → Nat → Nat} {dA : Nat → ClassId} {s0 : State} {b0 : Addr} (Z : Z0 l dC dI dA s0 b0) (A : Nat → Prop) (sz : Nat) (hA : ∀ q : Nat, sz ≤ q → A q) {σ : Nat → Nat} {dS : va_G} (Y2 : S2 (dC, dI) dS dA σ s0) (ci cn : Nat) (h1 : ci < cn) (h2 : cn < 2 ^ 31) : Met l yJ2_checkIndex (ws_ yJ2_checkIndex cJ2_checkIndex 2 none) ({ frames := 2, cells := 0, slots := 0, locals := 120 } : Room) (gP [.int (nI ci), .int (nI cn)] s0 A (fun H => H.size = sz)) (va_Qv (S := Unit) (fun _ => True) (B1 (dC, dI) A (fun _ => []) (fun _ _ => True)) A) 0 0 A := by
  refine Met.ofW (cc := cJ2_checkIndex) (maxL := 2) (ret := none) (by decide) rfl ?_
  intro p e s m args below meth c s₁ B hml hv
  obtain ⟨hav, hG, hsz⟩ := hv
  have hx := B.exec
  have hb := B.bytes
  have hr := B.returns
  have hts := atoms_spec (ws := (ws_ yJ2_checkIndex cJ2_checkIndex 2 none)) B.pre
  have hts : ∀ w ∈ lw_all, w.before _ s = true := fun w h => hts w (List.mem_cons_of_mem _ h)
  have hown : s.vm.findClass RJ2 = some m.cls := findClass_of_methodNamed B.named
  have hlocks := B.notSynchronized
  have hK := hG.K Z
  subst hsz
  have hS : va_S A s.heap s.heap [] := va_S.rf
  have hP : va_P (dC, dI) vwCl [] s.heap := fun k q h => by simp at h
  have hD : va_D A [] := ⟨fun i j p q h => by simp at h, fun k q h => by simp at h⟩
  have hl := lv_entry ([.int (nI ci), .int (nI cn)]) (n := 2) (Nat.le_of_ble_eq_true rfl)
  rw [show entryFrame m args 2 = entryFrame m ([.int (nI ci), .int (nI cn)] : List Value).toArray 2 from by rw [hav], lg_entry_eq]
  generalize (lg_sl ([.int (nI ci), .int (nI cn)]) ++ List.replicate (2 - (lg_sl ([.int (nI ci), .int (nI cn)])).length) Slot.unset).toArray = ls at hl ⊢
  have hl : lv_has ls 2 [(0, .int (nI ci)), (1, .int (nI cn))] := hl
  generalize hQe : MQ below _ _ s _ _ _ = Q
  change W p l e ({ frames := 2, cells := 0, slots := 0, locals := 120 } : Room) s m args below meth c s.heap [] 0 0 Q (F0 m 0 ls [])
  refine lv_iload_n hx hb dJ2_checkIndex_0 rfl (lv_at hl 0 rfl) ?_
  refine lv_iload_n hx hb dJ2_checkIndex_1 rfl (lv_at hl 1 rfl) ?_
  refine va_gets (v := .ref (σ 60)) hx hb (hG.Z Z Y2.2.1) hS hown (hts _ q1255) (fun _ h9 => h9) dJ2_checkIndex_2 ?_
  refine s_i (va_runS (As := [.int (nI ci), .int (nI cn), .ref (σ 60)]) (rest := []) ⟨hx, hb, hml, hown, hts⟩ (j16_checkIndex Z Y2 ci cn (σ 60) (by omega) (by omega)) (va_cwS 3 hts (lw_S q1926 q1816 q125 q1817) rfl rfl rfl (by decide +kernel) ⟨Nat.le_of_ble_eq_true rfl, Nat.le_of_ble_eq_true rfl⟩) (gP_S hG hS (fun q _ h => h.elim) trivial) rfl rfl hl.1 rfl (lv_room (Nat.le_of_ble_eq_true rfl)) dJ2_checkIndex_5 ⟨by first | decide | omega | (show _ ≤ (0 : Nat); omega), by first | decide | omega | (show _ ≤ (0 : Nat); omega)⟩) ?_
  refine lv_pop hx hb dJ2_checkIndex_8 rfl ?_
  subst hQe
  exact W.vret hx hb hr (fun tz ht hW => ⟨⟨(), rfl, trivial, B1_at ht (hP.sub [] rfl) (hD.sub [] (by decide) rfl) trivial⟩, hS.F ht⟩) hS.2.2 dJ2_checkIndex_9
set_option maxHeartbeats 4000000 in
theorem j0_charAt {l : Launch} {dC : Nat → ClassId} {dI : Nat → Nat → Nat} {dA : Nat → ClassId} {s0 : State} {b0 : Addr} (Z : Z0 l dC dI dA s0 b0) (A : Nat → Prop) (sz : Nat) (hA : ∀ q : Nat, sz ≤ q → A q) {σ : Nat → Nat} {dS : va_G} (Y2 : S2 (dC, dI) dS dA σ s0) (sb bv bm n : Nat) (ml : Int32) (f : Nat → Int32) (L : List Nat) (ic : Nat) (hn : L.length = n) (hO : OutH L f) (hL : ∀ x ∈ L, x < 256) (h2 : n ≤ bm) (h3 : bm ≤ 5000) (h4 : ic < n) : Met l yJ0_charAt (ws_ yJ0_charAt cJ0_charAt 5 (some (.char))) ({ frames := 4, cells := 0, slots := 0, locals := 240 } : Room) (gP [.ref sb, .int (nI ic)] s0 A (fun H => H.size = sz ∧ va_P (dC, dI) vwCl [(sb, .inr (15, [.ref bv, .int (nI 0), .int ml, .int (nI n)])), (bv, .inl (dA 2, bm, .inl f))] H ∧ va_D A [(sb, .inr (15, [.ref bv, .int (nI 0), .int ml, .int (nI n)])), (bv, .inl (dA 2, bm, .inl f))])) (va_Qi (S := Unit) (fun r _ => r = nI (L.getD ic 0)) (B1 (dC, dI) A (fun _ => [(sb, .inr (15, [.ref bv, .int (nI 0), .int ml, .int (nI n)])), (bv, .inl (dA 2, bm, .inl f))]) (fun _ _ => True)) A) 0 0 A := by
  refine Met.ofW (cc := cJ0_charAt) (maxL := 5) (ret := (some (.char))) (by decide) rfl ?_
  intro p e s m args below meth c s₁ B hml hv
  obtain ⟨hav, hG, hsz, hP, hD⟩ := hv
  have hx := B.exec
  have hb := B.bytes
  have hr := B.returns
  have hts := atoms_spec (ws := (ws_ yJ0_charAt cJ0_charAt 5 (some (.char)))) B.pre
  have hts : ∀ w ∈ lw_all, w.before _ s = true := fun w h => hts w (List.mem_cons_of_mem _ h)
  have hown : s.vm.findClass RJ0 = some m.cls := findClass_of_methodNamed B.named
  have hlocks := B.notSynchronized
  have hK := hG.K Z
  subst hsz
  have hS : va_S A s.heap s.heap [] := va_S.rf
  have hl := lv_entry ([.ref sb, .int (nI ic)]) (n := 5) (Nat.le_of_ble_eq_true rfl)
  rw [show entryFrame m args 5 = entryFrame m ([.ref sb, .int (nI ic)] : List Value).toArray 5 from by rw [hav], lg_entry_eq]
  generalize (lg_sl ([.ref sb, .int (nI ic)]) ++ List.replicate (5 - (lg_sl ([.ref sb, .int (nI ic)])).length) Slot.unset).toArray = ls at hl ⊢
  have hl : lv_has ls 5 [(0, .ref sb), (1, .int (nI ic))] := hl
  generalize hQe : MQ below _ _ s _ _ _ = Q
  change W p l e ({ frames := 4, cells := 0, slots := 0, locals := 240 } : Room) s m args below meth c s.heap [] 0 0 Q (F0 m 0 ls [])
  refine lv_aload_n hx hb dJ0_charAt_0 rfl (lv_at hl 0 rfl) ?_
  refine va_get (D := (dC, dI)) (ci := 15) (v := .int (nI 0)) (C := RJ1) (T := TJ1) (N := 4) hx hb hts in_J1 hown hK hP 0 rfl rfl 1 (by decide) (hts _ q270) (fun _ h9 => h9) rfl dJ0_charAt_1 ?_
  refine lv_istore_n (lv' := [(2, .int (nI 0)), (0, .ref sb), (1, .int (nI ic))]) hx hb dJ0_charAt_4 rfl hl (by decide) rfl (fun ls hl => ?_)
  refine lv_aload_n hx hb dJ0_charAt_5 rfl (lv_at hl 1 rfl) ?_
  refine va_get (D := (dC, dI)) (ci := 15) (v := .ref bv) (C := RJ1) (T := TJ1) (N := 4) hx hb hts in_J1 hown hK hP 0 rfl rfl 0 (by decide) (hts _ q269) (fun _ h9 => h9) rfl dJ0_charAt_6 ?_
  refine lv_astore_n (lv' := [(3, .ref bv), (2, .int (nI 0)), (0, .ref sb), (1, .int (nI ic))]) hx hb dJ0_charAt_9 rfl hl (by decide) rfl (fun ls hl => ?_)
  refine lv_aload_n hx hb dJ0_charAt_10 rfl (lv_at hl 2 rfl) ?_
  refine va_get (D := (dC, dI)) (ci := 15) (v := .int (nI n)) (C := RJ1) (T := TJ1) (N := 4) hx hb hts in_J1 hown hK hP 0 rfl rfl 3 (by decide) (hts _ q273) (fun _ h9 => h9) rfl dJ0_charAt_11 ?_
  refine lv_aload_n hx hb dJ0_charAt_14 rfl (lv_at hl 0 rfl) ?_
  refine va_alen (v := nI bm) hx hb hK hP 1 2 rfl rfl rfl dJ0_charAt_15 ?_
  refine lv_iload_n hx hb dJ0_charAt_16 rfl (lv_at hl 1 rfl) ?_
  refine lv_ishr hx hb dJ0_charAt_17 ?_
  refine e_i (y := nI (bm / 2 ^ 0)) (n_shr (by omega) (by omega)) ?_
  refine e_i (y := nI bm) (n_eq (by simp)) ?_
  refine va_mmin hx hb (hml.trans hl.1.symm) hown (hts _ q1978) (hts _ q1232) (hts _ q115) (hts _ q1233) (Nat.le_of_ble_eq_true rfl) (Nat.le_of_ble_eq_true rfl) (by first | exact Nat.zero_le _ | decide | omega | (show _ ≤ (0 : Nat); omega)) (by first | exact Nat.zero_le _ | decide | omega | (show _ ≤ (0 : Nat); omega)) dJ0_charAt_18 ?_
  refine e_i (y := nI n) (mn_le h2 (by omega)) ?_
  refine lv_istore (lv' := [(4, .int (nI n)), (3, .ref bv), (2, .int (nI 0)), (0, .ref sb), (1, .int (nI ic))]) hx hb dJ0_charAt_21 hl (by decide) rfl (fun ls hl => ?_)
  refine lv_iload_n hx hb dJ0_charAt_23 rfl (lv_at hl 4 rfl) ?_
  refine lv_iload hx hb dJ0_charAt_24 (lv_at hl 0 rfl) ?_
  have hF9 := va_free (wc := []) hD hS (fun q h => hA q h) [] rfl
  refine c_v (wr := [(sb, .inr (15, [.ref bv, .int (nI 0), .int ml, .int (nI n)])), (bv, .inl (dA 2, bm, .inl f))]) (va_runS (As := [.int (nI ic), .int (nI n)]) (rest := []) ⟨hx, hb, hml, hown, hts⟩ (j2_checkIndex Z (va_A [] s.heap.size) s.heap.size (fun q h => Or.inr h) Y2 ic n (by omega) (by omega)) (va_cwS 2 hts (lw_S q1979 q1924 q105 q1925) rfl rfl rfl (by decide +kernel) ⟨Nat.le_of_ble_eq_true rfl, Nat.le_of_ble_eq_true rfl⟩) (gP_S hG hS (fun q _ h => hF9 q h) rfl) rfl rfl hl.1 rfl (lv_room (Nat.le_of_ble_eq_true rfl)) dJ0_charAt_26 ⟨by first | decide | omega | (show _ ≤ (0 : Nat); omega), by first | decide | omega | (show _ ≤ (0 : Nat); omega)⟩) hP hD hS hA [] [0, 1] rfl rfl (by decide) (by decide) (fun u9 H locs hq hX hz hk hP hD hS => ?_)
  have hP : va_P (dC, dI) vwCl [(sb, .inr (15, [.ref bv, .int (nI 0), .int ml, .int (nI n)])), (bv, .inl (dA 2, bm, .inl f))] H := hP
  have hD : va_D A [(sb, .inr (15, [.ref bv, .int (nI 0), .int ml, .int (nI n)])), (bv, .inl (dA 2, bm, .inl f))] := hD
  refine lv_iload_n hx hb dJ0_charAt_29 rfl (lv_at hl 2 rfl) ?_
  refine lv_if_ne (tgt := 42) hx hb dJ0_charAt_30 (by decide) (fun c_30 => ?_) (fun c_30 => ?_)
  · exact absurd (by decide) c_30
  refine lv_aload_n hx hb dJ0_charAt_33 rfl (lv_at hl 1 rfl) ?_
  refine lv_iload_n hx hb dJ0_charAt_34 rfl (lv_at hl 4 rfl) ?_
  refine a_bald hx hb hK hP 1 2 rfl rfl (by omega) (by omega) dJ0_charAt_35 ?_
  refine lv_sipush (v := nI 255) hx hb dJ0_charAt_36 (by decide) ?_
  refine lv_iand hx hb dJ0_charAt_39 ?_
  refine lv_i2c hx hb dJ0_charAt_40 rfl ?_
  refine e_i (y := nI (L.getD ic 0)) (ca_41 (hO ic (by omega)) (hL _ (ca_m (by omega)))) ?_
  subst hQe
  exact W.zret (v := nI (L.getD ic 0)) hx hb hr (pk_charN (by have := hL _ (ca_m (L := L) (i := ic) (by omega)); omega)).1 (fun tz ht hW => ⟨⟨_, (), rfl, rfl, B1_at ht (hP.sub [0, 1] rfl) (hD.sub [0, 1] (by decide) rfl) trivial⟩, hS.F ht⟩) hS.2.2 dJ0_charAt_41
set_option maxHeartbeats 4000000 in
theorem j1_charAt {l : Launch} {dC : Nat → ClassId} {dI : Nat → Nat → Nat} {dA : Nat → ClassId} {s0 : State} {b0 : Addr} (Z : Z0 l dC dI dA s0 b0) (A : Nat → Prop) (sz : Nat) (hA : ∀ q : Nat, sz ≤ q → A q) {σ : Nat → Nat} {dS : va_G} (Y2 : S2 (dC, dI) dS dA σ s0) (sb bv bm n : Nat) (ml : Int32) (f : Nat → Int32) (L : List Nat) (ic : Nat) (hn : L.length = n) (hO : OutH L f) (hL : ∀ x ∈ L, x < 256) (h2 : n ≤ bm) (h3 : bm ≤ 5000) (h4 : ic < n) : Met l yJ1_charAt (ws_ yJ1_charAt cJ1_charAt 2 (some (.char))) ({ frames := 5, cells := 0, slots := 0, locals := 300 } : Room) (gP [.ref sb, .int (nI ic)] s0 A (fun H => H.size = sz ∧ va_P (dC, dI) vwCl [(sb, .inr (15, [.ref bv, .int (nI 0), .int ml, .int (nI n)])), (bv, .inl (dA 2, bm, .inl f))] H ∧ va_D A [(sb, .inr (15, [.ref bv, .int (nI 0), .int ml, .int (nI n)])), (bv, .inl (dA 2, bm, .inl f))])) (va_Qi (S := Unit) (fun r _ => r = nI (L.getD ic 0)) (B1 (dC, dI) A (fun _ => [(sb, .inr (15, [.ref bv, .int (nI 0), .int ml, .int (nI n)])), (bv, .inl (dA 2, bm, .inl f))]) (fun _ _ => True)) A) 0 0 A := by
  refine Met.ofW (cc := cJ1_charAt) (maxL := 2) (ret := (some (.char))) (by decide) rfl ?_
  intro p e s m args below meth c s₁ B hml hv
  obtain ⟨hav, hG, hsz, hP, hD⟩ := hv
  have hx := B.exec
  have hb := B.bytes
  have hr := B.returns
  have hts := atoms_spec (ws := (ws_ yJ1_charAt cJ1_charAt 2 (some (.char)))) B.pre
  have hts : ∀ w ∈ lw_all, w.before _ s = true := fun w h => hts w (List.mem_cons_of_mem _ h)
  have hown : s.vm.findClass RJ1 = some m.cls := findClass_of_methodNamed B.named
  have hlocks := B.notSynchronized
  have hK := hG.K Z
  subst hsz
  have hS : va_S A s.heap s.heap [] := va_S.rf
  have hl := lv_entry ([.ref sb, .int (nI ic)]) (n := 2) (Nat.le_of_ble_eq_true rfl)
  rw [show entryFrame m args 2 = entryFrame m ([.ref sb, .int (nI ic)] : List Value).toArray 2 from by rw [hav], lg_entry_eq]
  generalize (lg_sl ([.ref sb, .int (nI ic)]) ++ List.replicate (2 - (lg_sl ([.ref sb, .int (nI ic)])).length) Slot.unset).toArray = ls at hl ⊢
  have hl : lv_has ls 2 [(0, .ref sb), (1, .int (nI ic))] := hl
  generalize hQe : MQ below _ _ s _ _ _ = Q
  change W p l e ({ frames := 5, cells := 0, slots := 0, locals := 300 } : Room) s m args below meth c s.heap [] 0 0 Q (F0 m 0 ls [])
  refine lv_aload_n hx hb dJ1_charAt_0 rfl (lv_at hl 0 rfl) ?_
  refine lv_iload_n hx hb dJ1_charAt_1 rfl (lv_at hl 1 rfl) ?_
  have hF9 := va_free (wc := [(sb, .inr (15, [.ref bv, .int (nI 0), .int ml, .int (nI n)])), (bv, .inl (dA 2, bm, .inl f))]) hD hS (fun q h => hA q h) [0, 1] rfl
  refine c_i (wr := []) (va_runSU (hK.1 15 _ rfl).2 (As := [.int (nI ic)]) (rest := []) ⟨hx, hb, hml, hown, hts⟩ (j0_charAt Z (va_A [(sb, .inr (15, [.ref bv, .int (nI 0), .int ml, .int (nI n)])), (bv, .inl (dA 2, bm, .inl f))] s.heap.size) s.heap.size (fun q h => Or.inr h) Y2 sb bv bm n ml f L ic hn hO hL (by omega) (by omega) (by omega)) (va_cwSU 1 hts (lw_SU q1975 q2545 q282 q1976 q103 q1977) rfl rfl rfl (by decide +kernel) ⟨Nat.le_of_ble_eq_true rfl, Nat.le_of_ble_eq_true rfl⟩) (gP_V (va_recv hK hP (ci := 15) (q0 := 0) rfl rfl) hG hS (fun q _ h => hF9 q h) ⟨rfl, (hP.sub (ws' := [(sb, .inr (15, [.ref bv, .int (nI 0), .int ml, .int (nI n)])), (bv, .inl (dA 2, bm, .inl f))]) [0, 1] rfl), (hD.sub (ws' := [(sb, .inr (15, [.ref bv, .int (nI 0), .int ml, .int (nI n)])), (bv, .inl (dA 2, bm, .inl f))]) [0, 1] (by decide) rfl).self⟩) rfl rfl hl.1 rfl (lv_room (Nat.le_of_ble_eq_true rfl)) dJ1_charAt_2 ⟨by first | decide | omega | (show _ ≤ (0 : Nat); omega), by first | decide | omega | (show _ ≤ (0 : Nat); omega)⟩) hP hD hS hA [0, 1] [] rfl rfl (by decide) (by decide) (fun r9 u9 H locs hq hX hz hk hP hD hS => ?_)
  have hca := hq
  clear hq
  obtain ⟨r_1, rfl⟩ : ∃ z, z = r9 := ⟨_, rfl⟩
  have hP : va_P (dC, dI) vwCl [(sb, .inr (15, [.ref bv, .int (nI 0), .int ml, .int (nI n)])), (bv, .inl (dA 2, bm, .inl f))] H := hP
  have hD : va_D A [(sb, .inr (15, [.ref bv, .int (nI 0), .int ml, .int (nI n)])), (bv, .inl (dA 2, bm, .inl f))] := hD
  refine e_i (y := nI (L.getD ic 0)) (hca) ?_
  subst hQe
  exact W.zret (v := nI (L.getD ic 0)) hx hb hr (pk_charN (by have := hL _ (ca_m (L := L) (i := ic) (by omega)); omega)).1 (fun tz ht hW => ⟨⟨_, (), rfl, rfl, B1_at ht (hP.sub [0, 1] rfl) (hD.sub [0, 1] (by decide) rfl) trivial⟩, hS.F ht⟩) hS.2.2 dJ1_charAt_5
set_option maxHeartbeats 4000000 in
theorem j0_init {l : Launch} {dC : Nat → ClassId} {dI : Nat → Nat → Nat} {dA : Nat → ClassId} {s0 : State} {b0 : Addr} (Z : Z0 l dC dI dA s0 b0) (A : Nat → Prop) (sz : Nat) (hA : ∀ q : Nat, sz ≤ q → A q) {σ : Nat → Nat} {dS : va_G} (Y2 : S2 (dC, dI) dS dA σ s0) (sb : Nat) : Met l yJ0_init (ws_ yJ0_init cJ0_init 2 none) ({ frames := 2, cells := 1, slots := 16, locals := 120 } : Room) (gP [.ref sb, .int (nI 16)] s0 A (fun H => H.size = sz ∧ va_P (dC, dI) vwCl [(sb, .inr (15, [.null, .int 0, .int 0, .int 0]))] H ∧ va_D A [(sb, .inr (15, [.null, .int 0, .int 0, .int 0]))])) (va_Qv (S := Nat) (fun _ => True) (B1 (dC, dI) A (fun u => [(sb, .inr (15, [.ref u, .int (nI 0), .int 0, .int 0])), (u, .inl (dA 2, 16, .inl (fun _ => 0)))]) (fun _ _ => True)) A) 1 16 A := by
  refine Met.ofW (cc := cJ0_init) (maxL := 2) (ret := none) (by decide) rfl ?_
  intro p e s m args below meth c s₁ B hml hv
  obtain ⟨hav, hG, hsz, hP, hD⟩ := hv
  have hx := B.exec
  have hb := B.bytes
  have hr := B.returns
  have hts := atoms_spec (ws := (ws_ yJ0_init cJ0_init 2 none)) B.pre
  have hts : ∀ w ∈ lw_all, w.before _ s = true := fun w h => hts w (List.mem_cons_of_mem _ h)
  have hown : s.vm.findClass RJ0 = some m.cls := findClass_of_methodNamed B.named
  have hlocks := B.notSynchronized
  have hK := hG.K Z
  have hin : meth.name = "<init>" := (name_of_methodNamed B.named B.method).1
  subst hsz
  have hS : va_S A s.heap s.heap [] := va_S.rf
  have hl := lv_entry ([.ref sb, .int (nI 16)]) (n := 2) (Nat.le_of_ble_eq_true rfl)
  rw [show entryFrame m args 2 = entryFrame m ([.ref sb, .int (nI 16)] : List Value).toArray 2 from by rw [hav], lg_entry_eq]
  generalize (lg_sl ([.ref sb, .int (nI 16)]) ++ List.replicate (2 - (lg_sl ([.ref sb, .int (nI 16)])).length) Slot.unset).toArray = ls at hl ⊢
  have hl : lv_has ls 2 [(0, .ref sb), (1, .int (nI 16))] := hl
  generalize hQe : MQ below _ _ s _ _ _ = Q
  change W p l e ({ frames := 2, cells := 1, slots := 16, locals := 120 } : Room) s m args below meth c s.heap [] 0 0 Q (F0 m 0 ls [])
  refine lv_aload_n hx hb dJ0_init_0 rfl (lv_at hl 0 rfl) ?_
  refine W.objInit hx hb hown (hts _ q259) (hts _ q151) (hts _ q152) rfl (by rw [hml]; exact hl.1) rfl dJ0_init_1 (Nat.le_of_ble_eq_true rfl) (Nat.le_of_ble_eq_true rfl) ?_
  show W p l e ({ frames := 2, cells := 1, slots := 16, locals := 120 } : Room) s m args below meth c s.heap [] 0 0 Q (F0 m 4 ls [])
  refine va_gets (v := .int (nI 1)) hx hb (hG.Z Z Y2.1) hS hown (hts _ q260) (fun _ h9 => h9) dJ0_init_4 ?_
  refine lv_if_eq (tgt := 25) hx hb dJ0_init_7 (by decide) (fun c_7 => ?_) (fun c_7 => ?_)
  · exact absurd c_7 (by decide)
  refine lv_aload_n hx hb dJ0_init_10 rfl (lv_at hl 0 rfl) ?_
  refine lv_iload_n hx hb dJ0_init_11 rfl (lv_at hl 1 rfl) ?_
  refine a_newa (D := (dC, dI)) (atype := .byte) (N' := 16) (a0 := (16, .inl (fun _ => 0))) hx hb (hts _ q283) rfl hK hP hD hS hA 2 rfl (fun _ => ra_byte) (fun _ => rfl) (by decide) (by decide) (by decide) (by first | decide | omega) (by first | decide | omega) dJ0_init_12 (fun na_1 H locs hP hD hS => ?_)
  have hP : va_P (dC, dI) vwCl [(sb, .inr (15, [.null, .int 0, .int 0, .int 0])), (na_1, .inl (dA 2, 16, .inl (fun _ => 0)))] H := hP
  have hD : va_D A [(sb, .inr (15, [.null, .int 0, .int 0, .int 0])), (na_1, .inl (dA 2, 16, .inl (fun _ => 0)))] := hD
  refine va_put (D := (dC, dI)) (ci := 15) (v := .ref na_1) (ty := (tyJ1 0)) (C := RJ1) (T := TJ1) (N := 4) hx hb hts in_J1 tyJ1 tyJ1_ok nmJ1 hown hK hP hD hS 0 rfl rfl 0 (by decide) (hts _ q269) (fun _ h9 => h9) rfl (by decide +kernel) rfl rfl (Nat.le_of_ble_eq_true rfl) dJ0_init_14 (fun H locs hP hD hS => ?_)
  have hP : va_P (dC, dI) vwCl [(sb, .inr (15, [.ref na_1, .int 0, .int 0, .int 0])), (na_1, .inl (dA 2, 16, .inl (fun _ => 0)))] H := hP
  have hD : va_D A [(sb, .inr (15, [.ref na_1, .int 0, .int 0, .int 0])), (na_1, .inl (dA 2, 16, .inl (fun _ => 0)))] := hD
  refine lv_aload_n hx hb dJ0_init_17 rfl (lv_at hl 0 rfl) ?_
  refine lv_iconst (v := nI 0) hx hb dJ0_init_18 (by decide) ?_
  refine va_put (D := (dC, dI)) (ci := 15) (v := .int (nI 0)) (ty := .byte) (C := RJ1) (T := TJ1) (N := 4) hx hb hts in_J1 tyJ1 tyJ1_ok nmJ1 hown hK hP hD hS 0 rfl rfl 1 (by decide) (hts _ q270) (fun _ h9 => h9) rfl (by decide +kernel) rfl rfl (Nat.le_of_ble_eq_true rfl) dJ0_init_19 (fun H locs hP hD hS => ?_)
  have hP : va_P (dC, dI) vwCl [(sb, .inr (15, [.ref na_1, .int (nI 0), .int 0, .int 0])), (na_1, .inl (dA 2, 16, .inl (fun _ => 0)))] H := hP
  have hD : va_D A [(sb, .inr (15, [.ref na_1, .int (nI 0), .int 0, .int 0])), (na_1, .inl (dA 2, 16, .inl (fun _ => 0)))] := hD
  refine lv_goto (tgt := 38) hx hb dJ0_init_22 (by decide) ?_
  subst hQe
  refine W.widen (k := 1) (n := 16) (by first | decide | omega) (by first | decide | omega) ?_
  exact W.vret hx hb hr (fun tz ht hW => ⟨⟨na_1, rfl, trivial, B1_at ht (hP.sub [0, 1] rfl) (hD.sub [0, 1] (by decide) rfl) trivial⟩, hS.F ht⟩) hS.2.2 dJ0_init_38
set_option maxHeartbeats 4000000 in
theorem j1_init {l : Launch} {dC : Nat → ClassId} {dI : Nat → Nat → Nat} {dA : Nat → ClassId} {s0 : State} {b0 : Addr} (Z : Z0 l dC dI dA s0 b0) (A : Nat → Prop) (sz : Nat) (hA : ∀ q : Nat, sz ≤ q → A q) {σ : Nat → Nat} {dS : va_G} (Y2 : S2 (dC, dI) dS dA σ s0) (sb : Nat) : Met l yJ1_init (ws_ yJ1_init cJ1_init 1 none) ({ frames := 3, cells := 1, slots := 16, locals := 180 } : Room) (gP [.ref sb] s0 A (fun H => H.size = sz ∧ va_P (dC, dI) vwCl [(sb, .inr (15, [.null, .int 0, .int 0, .int 0]))] H ∧ va_D A [(sb, .inr (15, [.null, .int 0, .int 0, .int 0]))])) (va_Qv (S := Nat) (fun _ => True) (B1 (dC, dI) A (fun u => [(sb, .inr (15, [.ref u, .int (nI 0), .int 0, .int 0])), (u, .inl (dA 2, 16, .inl (fun _ => 0)))]) (fun _ _ => True)) A) 1 16 A := by
  refine Met.ofW (cc := cJ1_init) (maxL := 1) (ret := none) (by decide) rfl ?_
  intro p e s m args below meth c s₁ B hml hv
  obtain ⟨hav, hG, hsz, hP, hD⟩ := hv
  have hx := B.exec
  have hb := B.bytes
  have hr := B.returns
  have hts := atoms_spec (ws := (ws_ yJ1_init cJ1_init 1 none)) B.pre
  have hts : ∀ w ∈ lw_all, w.before _ s = true := fun w h => hts w (List.mem_cons_of_mem _ h)
  have hown : s.vm.findClass RJ1 = some m.cls := findClass_of_methodNamed B.named
  have hlocks := B.notSynchronized
  have hK := hG.K Z
  have hin : meth.name = "<init>" := (name_of_methodNamed B.named B.method).1
  subst hsz
  have hS : va_S A s.heap s.heap [] := va_S.rf
  have hl := lv_entry ([.ref sb]) (n := 1) (Nat.le_of_ble_eq_true rfl)
  rw [show entryFrame m args 1 = entryFrame m ([.ref sb] : List Value).toArray 1 from by rw [hav], lg_entry_eq]
  generalize (lg_sl ([.ref sb]) ++ List.replicate (1 - (lg_sl ([.ref sb])).length) Slot.unset).toArray = ls at hl ⊢
  have hl : lv_has ls 1 [(0, .ref sb)] := hl
  generalize hQe : MQ below _ _ s _ _ _ = Q
  change W p l e ({ frames := 3, cells := 1, slots := 16, locals := 180 } : Room) s m args below meth c s.heap [] 0 0 Q (F0 m 0 ls [])
  refine lv_aload_n hx hb dJ1_init_0 rfl (lv_at hl 0 rfl) ?_
  refine lv_bipush (v := nI 16) hx hb dJ1_init_1 (by decide) ?_
  have hF9 := va_free (wc := [(sb, .inr (15, [.null, .int 0, .int 0, .int 0]))]) hD hS (fun q h => hA q h) [0] rfl
  refine c_v (wr := []) (va_runI (As := [.int (nI 16)]) (rest := []) ⟨hx, hb, hml, hown, hts⟩ (j0_init Z (va_A [(sb, .inr (15, [.null, .int 0, .int 0, .int 0]))] s.heap.size) s.heap.size (fun q h => Or.inr h) Y2 sb) (cwI 1 hts (lw_meth q258) rfl rfl rfl (hts _ q103) (hts _ q256) (hts _ q257) rfl (by decide +kernel) ⟨Nat.le_of_ble_eq_true rfl, Nat.le_of_ble_eq_true rfl⟩) (gP_S hG hS (fun q _ h => hF9 q h) ⟨rfl, (hP.sub (ws' := [(sb, .inr (15, [.null, .int 0, .int 0, .int 0]))]) [0] rfl), (hD.sub (ws' := [(sb, .inr (15, [.null, .int 0, .int 0, .int 0]))]) [0] (by decide) rfl).self⟩) rfl rfl hl.1 rfl (lv_room (Nat.le_of_ble_eq_true rfl)) dJ1_init_3 ⟨by first | decide | omega | (show _ ≤ (1 : Nat); omega), by first | decide | omega | (show _ ≤ (16 : Nat); omega)⟩) hP hD hS hA [0] [] rfl rfl (by decide) (by decide) (fun u9 H locs hq hX hz hk hP hD hS => ?_)
  obtain ⟨bv_0, rfl⟩ : ∃ z, z = u9 := ⟨_, rfl⟩
  have hP : va_P (dC, dI) vwCl [(sb, .inr (15, [.ref bv_0, .int (nI 0), .int 0, .int 0])), (bv_0, .inl (dA 2, 16, .inl (fun _ => 0)))] H := hP
  have hD : va_D A [(sb, .inr (15, [.ref bv_0, .int (nI 0), .int 0, .int 0])), (bv_0, .inl (dA 2, 16, .inl (fun _ => 0)))] := hD
  subst hQe
  refine W.widen (k := 1) (n := 16) (by first | decide | omega) (by first | decide | omega) ?_
  exact W.vret hx hb hr (fun tz ht hW => ⟨⟨bv_0, rfl, trivial, B1_at ht (hP.sub [0, 1] rfl) (hD.sub [0, 1] (by decide) rfl) trivial⟩, hS.F ht⟩) hS.2.2 dJ1_init_6
