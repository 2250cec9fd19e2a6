/-! the output -/
theorem a_ldcwS {p : Program} {l : Launch} {e : Env} {R : Room} {s : State} {m : MethodId} {args : Array Value} {below : List Frame} {meth : Method} {c : Code} {H : Heap} {locs : List Loc} {cells slots : Nat} {Q : State → Prop} {cc : ByteArray} {pc : Nat} {ls : Array Slot} {rest : List Value} (hexec : p.tables.exec = Jvm.exec) (hb : c.code = cc) {own tx : String} {index q : Nat} (hown : s.vm.findClass own = some m.cls) (hZ : vk_R own index tx q s) (hdg : decode cc pc = .ok (.ldc_w index, 3)) (k : W p l e R s m args below meth c H locs cells slots Q (F0 m (pc + 3) ls (.ref q :: rest))) : W p l e R s m args below meth c H locs cells slots Q (F0 m pc ls rest) := by
  intro T hT X
  obtain ⟨t, u1, u2⟩ := k T hT X
  exact ⟨t, X.ldcStringW hexec hown (text := tx) (a := q) hZ.1 hZ.2 (g := F0 m pc ls rest) rfl (by rw [hb]; exact hdg) t u1, u2⟩
theorem nat_of {i : Int32} (h : ¬ i < 0) : ∃ j : Nat, j < 2 ^ 31 ∧ i = nI j := by
  have h1 := Int32.le_iff_toInt_le.mp (Int32.not_lt.mp h)
  rw [Int32.toInt_zero] at h1
  have h2 := Int32.toInt_lt i
  refine ⟨i.toInt.toNat, by omega, ?_⟩
  apply Int32.toInt_inj.mp
  rw [nI_toInt (by omega)]
  omega
theorem ob_1 {L : List Nat} {i : Nat} (hi : i < 2 ^ 31) (h : i < L.length) : obX L (nI i) = (nI 0, nI (L.getD i 0)) := by
  unfold obX
  rw [if_neg (nI_pos hi), nI_clamp hi, if_pos h]
theorem ob_2 {L : List Nat} {i : Nat} (hi : i < 2 ^ 31) (h : ¬ i < L.length) : obX L (nI i) = (nI 0, -1) := by
  unfold obX
  rw [if_neg (nI_pos hi), nI_clamp hi, if_neg h]
/-- a term's head and its whole, as texts -/
def hdQ (tn td b : Nat) : List Nat := if tn = 1 ∧ td = 1 ∧ b ≠ 0 then [] else wrN tn ++ (if 1 < td then [47] ++ wrN td else []) ++ (if 0 < b then [42] else [])
def wrQ (tn td b : Nat) : List Nat := hdQ tn td b ++ (if 0 < b then [101] ++ vecL b 5 else [])
theorem wrT_Q (M : MV) (b : Nat) : wrT M b = wrQ (topN M b) (botN M b) b := rfl
theorem hd_1 {L : List Nat} {tn td b : Nat} (h : tn = 1 ∧ td = 1 ∧ b ≠ 0) : L = L ++ hdQ tn td b := by
  unfold hdQ
  rw [if_pos h, List.append_nil]
theorem hd_2 {L : List Nat} {tn td b : Nat} (h : ¬ (tn = 1 ∧ td = 1 ∧ b ≠ 0)) (hd : ¬ 1 < td) (hb : ¬ 0 < b) : L ++ wrN tn = L ++ hdQ tn td b := by
  unfold hdQ
  rw [if_neg h, if_neg hd, if_neg hb, List.append_nil, List.append_nil]
theorem hd_3 {L : List Nat} {tn td b : Nat} (h : ¬ (tn = 1 ∧ td = 1 ∧ b ≠ 0)) (hd : ¬ 1 < td) (hb : 0 < b) : L ++ wrN tn ++ [42] = L ++ hdQ tn td b := by
  unfold hdQ
  rw [if_neg h, if_neg hd, if_pos hb, List.append_nil, List.append_assoc]
theorem hd_4 {L : List Nat} {tn td b : Nat} (h : ¬ (tn = 1 ∧ td = 1 ∧ b ≠ 0)) (hd : 1 < td) (hb : ¬ 0 < b) : L ++ wrN tn ++ [47] ++ wrN td = L ++ hdQ tn td b := by
  unfold hdQ
  rw [if_neg h, if_pos hd, if_neg hb, List.append_nil]
  simp only [List.append_assoc]
theorem hd_5 {L : List Nat} {tn td b : Nat} (h : ¬ (tn = 1 ∧ td = 1 ∧ b ≠ 0)) (hd : 1 < td) (hb : 0 < b) : L ++ wrN tn ++ [47] ++ wrN td ++ [42] = L ++ hdQ tn td b := by
  unfold hdQ
  rw [if_neg h, if_pos hd, if_pos hb]
  simp only [List.append_assoc]
theorem wq_0 {L L1 : List Nat} {tn td b : Nat} (h : L1 = L ++ hdQ tn td b) (hb : ¬ 0 < b) : L1 = L ++ wrQ tn td b := by
  unfold wrQ
  rw [if_neg hb, List.append_nil]
  exact h
theorem wq_1 {L L1 : List Nat} {tn td b : Nat} (h : L1 = L ++ hdQ tn td b) (hb : 0 < b) : L1 ++ [101] ++ vecL b 5 = L ++ wrQ tn td b := by
  unfold wrQ
  rw [if_pos hb, h]
  simp only [List.append_assoc]
theorem cp_mono {m a b : Nat} (h : a ≤ b) : cpN m a ≤ cpN m b := by
  rw [← cp_two (m := m) h]
  exact cp_gem
theorem wl_0 {tn td b : Nat} : (hdQ tn td b).length ≤ (wrQ tn td b).length := by
  unfold wrQ
  rw [List.length_append]
  omega
theorem wl_1 {tn td b : Nat} (h : ¬ (tn = 1 ∧ td = 1 ∧ b ≠ 0)) : sb_dg tn ≤ (wrQ tn td b).length := by
  refine Nat.le_trans ?_ wl_0
  unfold hdQ
  rw [if_neg h, List.length_append, List.length_append, wrN_len]
  omega
theorem wl_2 {tn td b : Nat} (h : ¬ (tn = 1 ∧ td = 1 ∧ b ≠ 0)) (hb : 0 < b) : sb_dg tn + 1 ≤ (wrQ tn td b).length := by
  refine Nat.le_trans ?_ wl_0
  unfold hdQ
  rw [if_neg h, if_pos hb, List.length_append, List.length_append, wrN_len]
  show sb_dg tn + 1 ≤ sb_dg tn + _ + 1
  omega
theorem wl_3 {tn td b : Nat} (h : ¬ (tn = 1 ∧ td = 1 ∧ b ≠ 0)) (hd : 1 < td) : sb_dg tn + 1 + sb_dg td ≤ (wrQ tn td b).length := by
  refine Nat.le_trans ?_ wl_0
  unfold hdQ
  rw [if_neg h, if_pos hd, List.length_append, List.length_append, List.length_append, wrN_len, wrN_len]
  simp
  omega
theorem wl_4 {tn td b : Nat} (h : ¬ (tn = 1 ∧ td = 1 ∧ b ≠ 0)) (hd : 1 < td) (hb : 0 < b) : sb_dg tn + 1 + sb_dg td + 1 ≤ (wrQ tn td b).length := by
  refine Nat.le_trans ?_ wl_0
  unfold hdQ
  rw [if_neg h, if_pos hd, if_pos hb, List.length_append, List.length_append, List.length_append, wrN_len, wrN_len]
  simp
  omega
theorem wl_5 {L L1 : List Nat} {tn td b n n1 : Nat} (h : L1 = L ++ hdQ tn td b) (hn : L.length = n) (hn1 : L1.length = n1) : n1 ≤ n + (wrQ tn td b).length := by
  have := wl_0 (tn := tn) (td := td) (b := b)
  rw [← hn1, h, List.length_append, hn]
  omega
theorem wl_6 {L L1 : List Nat} {tn td b n n1 : Nat} (h : L1 = L ++ hdQ tn td b) (hn : L.length = n) (hn1 : L1.length = n1) (hb : 0 < b) : n1 + 1 + (vecL b 5).length = n + (wrQ tn td b).length := by
  unfold wrQ
  rw [← hn1, h, if_pos hb, List.length_append, List.length_append, List.length_append, hn]
  simp
  omega
theorem vecL_s (b k : Nat) : (vecL b k).length ≤ (vecL b (k + 1)).length := by
  show _ ≤ (if b / 2 ^ k &&& 1 = 1 then vecL b k ++ [49 + k] else vecL b k).length
  split
  · rw [List.length_append]; omega
  · omega
theorem vecL_mono (b : Nat) {k : Nat} (h : k ≤ 5) : (vecL b k).length ≤ (vecL b 5).length := by
  have h0 : (vecL b 0).length ≤ (vecL b 1).length := vecL_s b 0
  have h1 : (vecL b 1).length ≤ (vecL b 2).length := vecL_s b 1
  have h2 : (vecL b 2).length ≤ (vecL b 3).length := vecL_s b 2
  have h3 : (vecL b 3).length ≤ (vecL b 4).length := vecL_s b 3
  have h4 : (vecL b 4).length ≤ (vecL b 5).length := vecL_s b 4
  rcases (show k = 0 ∨ k = 1 ∨ k = 2 ∨ k = 3 ∨ k = 4 ∨ k = 5 by omega) with rfl | rfl | rfl | rfl | rfl | rfl <;> omega
theorem wt_0 {x y : Int64} {tn td b : Nat} (hx : absL x = lN tn) (hy : y = lN td) (z : tn = 1 ∧ td = 1 ∧ b ≠ 0) : (decide (absL x = 1) && decide (y = 1)) = true := by
  obtain ⟨rfl, rfl, -⟩ := z
  rw [hx, hy]
  decide
theorem wt_1 {x y : Int64} {tn td : Nat} (hx : absL x = lN tn) (hy : y = lN td) (ht : tn ≤ 100000000) (hd : td ≤ 100000000) (h : (decide (absL x = 1) && decide (y = 1)) = true) : tn = 1 ∧ td = 1 := by
  rw [Bool.and_eq_true, decide_eq_true_iff, decide_eq_true_iff, hx, hy] at h
  have a := congrArg Int64.toInt h.1
  have b := congrArg Int64.toInt h.2
  rw [pk_lT (by omega)] at a b
  have h1 : (1 : Int64).toInt = 1 := by decide
  omega
theorem wt_le {td : Nat} (hd : td ≤ 100000000) (h : lN td ≤ 1) : ¬ 1 < td := by
  have a := Int64.le_iff_toInt_le.mp h
  rw [pk_lT (by omega)] at a
  have h1 : (1 : Int64).toInt = 1 := by decide
  omega
theorem wt_gt {td : Nat} (hd : td ≤ 100000000) (h : ¬ lN td ≤ 1) : 1 < td := by
  rw [Int64.le_iff_toInt_le, pk_lT (by omega)] at h
  have h1 : (1 : Int64).toInt = 1 := by decide
  omega
set_option maxHeartbeats 4000000 in
theorem x1_outputByte {l : Launch} {dC : Nat → ClassId} {dI : Nat → Nat → Nat} {dA : Nat → ClassId} {s0 : State} {b0 : Addr} (Z : Z0 l dC dI dA s0 b0) (A : Nat → Prop) (sz : Nat) (hA : ∀ q : Nat, sz ≤ q → A q) {σ : Nat → Nat} {dS : va_G} (Y : SS (dC, dI) dA σ s0) (Y2 : S2 (dC, dI) dS dA σ s0) (xa : Nat → Nat) (tl : Nat) (ec ep : Int32) (bv bm n : Nat) (ml : Int32) (f : Nat → Int32) (L : List Nat) (i9 : Int32) (hn : L.length = n) (hO : OutH L f) (hL : ∀ x ∈ L, x < 256) (h2 : n ≤ bm) (h3 : bm ≤ 5000) : vx_Met l yX1_outputByte (ws_ yX1_outputByte cX1_outputByte 2 (some .int)) ({ frames := 8, cells := 1, slots := 6, locals := 480 } : Room) (gP [.ref (xa 0), .int i9] s0 A (fun H => H.size = sz ∧ va_P (dC, dI) vwCl [((xa 6), .inr (15, [.ref bv, .int (nI 0), .int ml, .int (nI n)])), (bv, .inl (dA 2, bm, .inl f))] H ∧ va_D A [((xa 6), .inr (15, [.ref bv, .int (nI 0), .int ml, .int (nI n)])), (bv, .inl (dA 2, bm, .inl f))] ∧ RO A (dC, dI) [((xa 0), .inr (3, xFs xa tl ec ep))] H)) (va_Qi (S := Unit) (fun r9 _ => obX L i9 = (nI 0, r9)) (B1 (dC, dI) A (fun _ => [((xa 6), .inr (15, [.ref bv, .int (nI 0), .int ml, .int (nI n)])), (bv, .inl (dA 2, bm, .inl f))]) (fun _ _ => True)) A) (vx_X (S := Unit) (fun _ => True) (fun _ E _ t9 => ((E = "java/lang/IndexOutOfBoundsException" ∧ obX L i9 = (nI 1, nI 0))) ∧ va_P (dC, dI) vwCl [((xa 6), .inr (15, [.ref bv, .int (nI 0), .int ml, .int (nI n)])), (bv, .inl (dA 2, bm, .inl f))] t9.heap) A) 1 6 A := by
  refine vx_ofW (cc := cX1_outputByte) (maxL := 2) (ret := (some .int)) (by decide) rfl ?_
  intro p e s m args below meth c s₁ B hml hnoH hv
  obtain ⟨hav, hG, hsz, hP, hD, hR0⟩ := hv
  have hx := B.exec
  have hb := B.bytes
  have hr := B.returns
  have hts := atoms_spec (ws := (ws_ yX1_outputByte cX1_outputByte 2 (some .int))) B.pre
  have hts : ∀ w ∈ lw_all, w.before _ s = true := fun w h => hts w (List.mem_cons_of_mem _ h)
  have hown : s.vm.findClass RX1 = some m.cls := findClass_of_methodNamed B.named
  have hlocks := B.notSynchronized
  have hK := hG.K Z
  subst hsz
  have hS : va_S A s.heap s.heap [] := va_S.rf
  have hl := lv_entry ([.ref (xa 0), .int i9]) (n := 2) (Nat.le_of_ble_eq_true rfl)
  rw [show entryFrame m args 2 = entryFrame m ([.ref (xa 0), .int i9] : List Value).toArray 2 from by rw [hav], lg_entry_eq]
  generalize (lg_sl ([.ref (xa 0), .int i9]) ++ List.replicate (2 - (lg_sl ([.ref (xa 0), .int i9])).length) Slot.unset).toArray = ls at hl ⊢
  have hl : lv_has ls 2 [(0, .ref (xa 0)), (1, .int i9)] := hl
  generalize hQe : vx_MQ below _ _ _ s _ _ _ = Q
  change W p l e ({ frames := 8, cells := 1, slots := 6, locals := 480 } : Room) s m args below meth c s.heap [] 0 0 Q (F0 m 0 ls [])
  refine lv_iload_n hx hb dX1_outputByte_0 rfl (lv_at hl 1 rfl) ?_
  refine lv_if_lt (tgt := 8) hx hb dX1_outputByte_1 (by decide) (fun c_1 => ?_) (fun c_1 => ?_)
  · refine lv_iconst (v := nI 0) hx hb dX1_outputByte_8 (by decide) ?_
    have hF9 := va_free (wc := []) hD hS (fun q h => hA q h) [] rfl
    refine x_v (wc := []) (wr := [((xa 6), .inr (15, [.ref bv, .int (nI 0), .int ml, .int (nI n)])), (bv, .inl (dA 2, bm, .inl f))]) (vx_runS (As := [.int (nI 0)]) (rest := []) ⟨hx, hb, hml, hown, hts⟩ (x1_index Z (va_A [] s.heap.size) s.heap.size (fun q h => Or.inr h) (SS.st Y) (σ 50) (SS.st0 Y) false) (va_cwS 1 hts (lw_S q473 q474 q96 q475) rfl rfl rfl (by decide +kernel) ⟨Nat.le_of_ble_eq_true rfl, Nat.le_of_ble_eq_true rfl⟩) (gP_S hG hS (fun q _ h => hF9 q h) rfl) rfl rfl hl.1 rfl (lv_room (Nat.le_of_ble_eq_true rfl)) dX1_outputByte_9 ⟨by first | decide | omega | (show _ ≤ (1 : Nat); omega), by first | decide | omega | (show _ ≤ (6 : Nat); omega)⟩) hP hD hS hA [] [0, 1] rfl rfl (by decide) (by decide) (fun E ce q9 u9 t9 H locs ht9 hp9 hb9 hz hP hS h1 h2 h3 => ?_) (fun u9 H locs hq hX hz hk hP hD hS => ?_)
    · have hD := hD.sub (ws' := [((xa 6), .inr (15, [.ref bv, .int (nI 0), .int ml, .int (nI n)])), (bv, .inl (dA 2, bm, .inl f))]) [0, 1] (by decide) rfl
      have hP : va_P (dC, dI) vwCl [((xa 6), .inr (15, [.ref bv, .int (nI 0), .int ml, .int (nI n)])), (bv, .inl (dA 2, bm, .inl f))] H := hP
      have hD : va_D A [((xa 6), .inr (15, [.ref bv, .int (nI 0), .int ml, .int (nI n)])), (bv, .inl (dA 2, bm, .inl f))] := hD
      subst hb9
      subst hQe
      exact vx_out (fun x h => (hnoH x h).elim) hlocks h1 h2 h3 (fun t10 e10 _ => ⟨(), trivial, (⟨⟨rfl, if_pos c_1⟩, by rw [e10]; exact hP.sub (ws' := [((xa 6), .inr (15, [.ref bv, .int (nI 0), .int ml, .int (nI n)])), (bv, .inl (dA 2, bm, .inl f))]) [0, 1] rfl⟩ : (_ ∧ _)), hS.F e10⟩) hS.2.2 (by first | decide | omega) (by first | decide | omega)
    exact absurd hq (by decide)
  · refine lv_iconst (v := nI 1) hx hb dX1_outputByte_4 (by decide) ?_
    refine lv_goto (tgt := 9) hx hb dX1_outputByte_5 (by decide) ?_
    have hF9 := va_free (wc := []) hD hS (fun q h => hA q h) [] rfl
    refine x_v (wc := []) (wr := [((xa 6), .inr (15, [.ref bv, .int (nI 0), .int ml, .int (nI n)])), (bv, .inl (dA 2, bm, .inl f))]) (vx_runS (As := [.int (nI 1)]) (rest := []) ⟨hx, hb, hml, hown, hts⟩ (x1_index Z (va_A [] s.heap.size) s.heap.size (fun q h => Or.inr h) (SS.st Y) (σ 50) (SS.st0 Y) true) (va_cwS 1 hts (lw_S q473 q474 q96 q475) rfl rfl rfl (by decide +kernel) ⟨Nat.le_of_ble_eq_true rfl, Nat.le_of_ble_eq_true rfl⟩) (gP_S hG hS (fun q _ h => hF9 q h) rfl) rfl rfl hl.1 rfl (lv_room (Nat.le_of_ble_eq_true rfl)) dX1_outputByte_9 ⟨by first | decide | omega | (show _ ≤ (1 : Nat); omega), by first | decide | omega | (show _ ≤ (6 : Nat); omega)⟩) hP hD hS hA [] [0, 1] rfl rfl (by decide) (by decide) (fun E ce q9 u9 t9 H locs ht9 hp9 hb9 hz hP hS h1 h2 h3 => ?_) (fun u9 H locs hq hX hz hk hP hD hS => ?_)
    · have hD := hD.sub (ws' := [((xa 6), .inr (15, [.ref bv, .int (nI 0), .int ml, .int (nI n)])), (bv, .inl (dA 2, bm, .inl f))]) [0, 1] (by decide) rfl
      have hP : va_P (dC, dI) vwCl [((xa 6), .inr (15, [.ref bv, .int (nI 0), .int ml, .int (nI n)])), (bv, .inl (dA 2, bm, .inl f))] H := hP
      have hD : va_D A [((xa 6), .inr (15, [.ref bv, .int (nI 0), .int ml, .int (nI n)])), (bv, .inl (dA 2, bm, .inl f))] := hD
      exact absurd hp9 (by decide)
    have hg9 : true = true := hq
    clear hq
    have hP : va_P (dC, dI) vwCl [((xa 6), .inr (15, [.ref bv, .int (nI 0), .int ml, .int (nI n)])), (bv, .inl (dA 2, bm, .inl f))] H := hP
    have hD : va_D A [((xa 6), .inr (15, [.ref bv, .int (nI 0), .int ml, .int (nI n)])), (bv, .inl (dA 2, bm, .inl f))] := hD
    obtain ⟨ji, hji, e8ji⟩ := nat_of c_1
    have hP0 := hP
    have hD0 := hD
    subst e8ji
    have hP := hP0
    have hD := hD0
    refine lv_iload_n hx hb dX1_outputByte_12 rfl (lv_at hl 1 rfl) ?_
    refine lv_aload_n hx hb dX1_outputByte_13 rfl (lv_at hl 0 rfl) ?_
    refine va_get (D := (dC, dI)) (ci := 3) (v := .ref (xa 6)) (C := RX1) (T := TX1) (N := 9) hx hb hts in_X1 hown hK (hR0.up hS) 0 rfl rfl 8 (by decide) (hts _ q295) (fun _ h9 => h9) rfl dX1_outputByte_14 ?_
    refine s_i (va_runV (As := []) (rest := [.int (nI ji)]) ⟨hx, hb, hml, hown, hts⟩ (j1_length Z Y2 (xa 6) bv n ml) (cwV 0 hts (lw_V q1899 q1554 q2542 q104 q1555) rfl rfl rfl (by decide +kernel) ⟨Nat.le_of_ble_eq_true rfl, Nat.le_of_ble_eq_true rfl⟩) (gP_V (va_recv hK hP (ci := 15) (q0 := 0) rfl rfl) hG hS (fun q _ h => h.elim) (hP.sub (ws' := [((xa 6), .inr (15, [.ref bv, .int (nI 0), .int ml, .int (nI n)]))]) [0] rfl)) rfl rfl hl.1 rfl (lv_room (Nat.le_of_ble_eq_true rfl)) dX1_outputByte_17 ⟨by first | decide | omega | (show _ ≤ (1 : Nat); omega), by first | decide | omega | (show _ ≤ (6 : Nat); omega)⟩) ?_
    refine lv_icmp_ge (tgt := 34) hx hb dX1_outputByte_20 (by decide) (fun c_20 => ?_) (fun c_20 => ?_)
    · have c_20 : n ≤ ji := (nI_leI (a := n) (b := ji) (by omega) (by omega)).mp c_20
      refine lv_iconst (v := (-1)) hx hb dX1_outputByte_34 (by decide) ?_
      subst hQe
      refine vx_ret ?_
      refine W.widen (k := 1) (n := 6) (by first | decide | omega) (by first | decide | omega) ?_
      exact W.iret (v := (-1)) hx hb hr (fun tz ht hW => ⟨⟨_, (), rfl, ob_2 hji (by omega), B1_at ht (hP.sub [0, 1] rfl) (hD.sub [0, 1] (by decide) rfl) trivial⟩, hS.F ht⟩) hS.2.2 dX1_outputByte_35
    · have c_20 : ¬ n ≤ ji := fun h => c_20 ((nI_leI (a := n) (b := ji) (by omega) (by omega)).mpr h)
      refine lv_aload_n hx hb dX1_outputByte_23 rfl (lv_at hl 0 rfl) ?_
      refine va_get (D := (dC, dI)) (ci := 3) (v := .ref (xa 6)) (C := RX1) (T := TX1) (N := 9) hx hb hts in_X1 hown hK (hR0.up hS) 0 rfl rfl 8 (by decide) (hts _ q295) (fun _ h9 => h9) rfl dX1_outputByte_24 ?_
      refine lv_iload_n hx hb dX1_outputByte_27 rfl (lv_at hl 1 rfl) ?_
      have hF9 := va_free (wc := [((xa 6), .inr (15, [.ref bv, .int (nI 0), .int ml, .int (nI n)])), (bv, .inl (dA 2, bm, .inl f))]) hD hS (fun q h => hA q h) [0, 1] rfl
      refine c_i (wr := []) (va_runV (As := [.int (nI ji)]) (rest := []) ⟨hx, hb, hml, hown, hts⟩ (j1_charAt Z (va_A [((xa 6), .inr (15, [.ref bv, .int (nI 0), .int ml, .int (nI n)])), (bv, .inl (dA 2, bm, .inl f))] H.size) H.size (fun q h => Or.inr h) Y2 (xa 6) bv bm n ml f L ji hn hO hL (by omega) (by omega) (by omega)) (cwV 1 hts (lw_V q1971 q1972 q1973 q104 q1974) rfl rfl rfl (by decide +kernel) ⟨Nat.le_of_ble_eq_true rfl, Nat.le_of_ble_eq_true rfl⟩) (gP_V (va_recv hK hP (ci := 15) (q0 := 0) rfl rfl) hG hS (fun q _ h => hF9 q h) ⟨rfl, (hP.sub (ws' := [((xa 6), .inr (15, [.ref bv, .int (nI 0), .int ml, .int (nI n)])), (bv, .inl (dA 2, bm, .inl f))]) [0, 1] rfl), (hD.sub (ws' := [((xa 6), .inr (15, [.ref bv, .int (nI 0), .int ml, .int (nI n)])), (bv, .inl (dA 2, bm, .inl f))]) [0, 1] (by decide) rfl).self⟩) rfl rfl hl.1 rfl (lv_room (Nat.le_of_ble_eq_true rfl)) dX1_outputByte_28 ⟨by first | decide | omega | (show _ ≤ (1 : Nat); omega), by first | decide | omega | (show _ ≤ (6 : Nat); omega)⟩) hP hD hS hA [0, 1] [] rfl rfl (by decide) (by decide) (fun r9 u9 H locs hq hX hz hk hP hD hS => ?_)
      have hca := hq
      clear hq
      obtain ⟨r_1, rfl⟩ : ∃ z, z = r9 := ⟨_, rfl⟩
      have hP : va_P (dC, dI) vwCl [((xa 6), .inr (15, [.ref bv, .int (nI 0), .int ml, .int (nI n)])), (bv, .inl (dA 2, bm, .inl f))] H := hP
      have hD : va_D A [((xa 6), .inr (15, [.ref bv, .int (nI 0), .int ml, .int (nI n)])), (bv, .inl (dA 2, bm, .inl f))] := hD
      refine e_i (y := nI (L.getD ji 0)) (hca) ?_
      refine lv_goto (tgt := 35) hx hb dX1_outputByte_31 (by decide) ?_
      subst hQe
      refine vx_ret ?_
      refine W.widen (k := 1) (n := 6) (by first | decide | omega) (by first | decide | omega) ?_
      exact W.iret (v := nI (L.getD ji 0)) hx hb hr (fun tz ht hW => ⟨⟨_, (), rfl, ob_1 hji (by omega), B1_at ht (hP.sub [0, 1] rfl) (hD.sub [0, 1] (by decide) rfl) trivial⟩, hS.F ht⟩) hS.2.2 dX1_outputByte_35
set_option maxHeartbeats 4000000 in
theorem x1_writeTerm {l : Launch} {dC : Nat → ClassId} {dI : Nat → Nat → Nat} {dA : Nat → ClassId} {s0 : State} {b0 : Addr} (Z : Z0 l dC dI dA s0 b0) (A : Nat → Prop) (sz : Nat) (hA : ∀ q : Nat, sz ≤ q → A q) {σ : Nat → Nat} {dS : va_G} (Y2 : S2 (dC, dI) dS dA σ s0) (xa : Nat → Nat) (tl : Nat) (ec ep : Int32) (bv bm n : Nat) (ml : Int32) (f : Nat → Int32) (L : List Nat) (ta b tn td : Nat) (tx ty : Int64) (hn : L.length = n) (hO : OutH L f) (hf : sb_Fit f) (h2 : n ≤ bm) (h3 : bm ≤ 4000) (h5 : 16 ≤ bm) (h6 : n ≤ 1200) (hb9 : b < 32) (hx9 : absL tx = lN tn) (hy9 : ty = lN td) (ht8 : tn ≤ 100000000) (hd8 : td ≤ 100000000) (hmx : tx ≠ Int64.minValue) : Met l yX1_writeTerm (ws_ yX1_writeTerm cX1_writeTerm 3 none) ({ frames := 8, cells := (cpN bm (n + (wrQ tn td b).length) - bm), slots := (2 * (cpN bm (n + (wrQ tn td b).length) - bm)), locals := 480 } : Room) (gP [.ref (xa 0), .ref ta] s0 A (fun H => H.size = sz ∧ va_P (dC, dI) vwCl [((xa 6), .inr (15, [.ref bv, .int (nI 0), .int ml, .int (nI n)])), (bv, .inl (dA 2, bm, .inl f))] H ∧ va_D A [((xa 6), .inr (15, [.ref bv, .int (nI 0), .int ml, .int (nI n)])), (bv, .inl (dA 2, bm, .inl f))] ∧ RO A (dC, dI) [((xa 0), .inr (3, xFs xa tl ec ep))] H ∧ RO A (dC, dI) [(ta, .inr (5, [.int (nI b), .long tx, .long ty]))] H)) (va_Qv (S := Nat × (Nat → Int32)) (fun u => OutH (L ++ wrQ tn td b) u.2 ∧ sb_Fit u.2) (B1 (dC, dI) A (fun u => [((xa 6), .inr (15, [.ref u.1, .int (nI 0), .int ml, .int (nI (n + (wrQ tn td b).length))])), (u.1, .inl (dA 2, (cpN bm (n + (wrQ tn td b).length)), .inl u.2))]) (fun _ _ => True)) A) (cpN bm (n + (wrQ tn td b).length) - bm) (2 * (cpN bm (n + (wrQ tn td b).length) - bm)) A := by
  refine Met.ofW (cc := cX1_writeTerm) (maxL := 3) (ret := none) (by decide) rfl ?_
  intro p e s m args below meth c s₁ B hml hv
  obtain ⟨hav, hG, hsz, hP, hD, hR0, hR1⟩ := hv
  have hx := B.exec
  have hb := B.bytes
  have hr := B.returns
  have hts := atoms_spec (ws := (ws_ yX1_writeTerm cX1_writeTerm 3 none)) B.pre
  have hts : ∀ w ∈ lw_all, w.before _ s = true := fun w h => hts w (List.mem_cons_of_mem _ h)
  have hown : s.vm.findClass RX1 = some m.cls := findClass_of_methodNamed B.named
  have hlocks := B.notSynchronized
  have hK := hG.K Z
  subst hsz
  have hS : va_S A s.heap s.heap [] := va_S.rf
  have hl := lv_entry ([.ref (xa 0), .ref ta]) (n := 3) (Nat.le_of_ble_eq_true rfl)
  rw [show entryFrame m args 3 = entryFrame m ([.ref (xa 0), .ref ta] : List Value).toArray 3 from by rw [hav], lg_entry_eq]
  generalize (lg_sl ([.ref (xa 0), .ref ta]) ++ List.replicate (3 - (lg_sl ([.ref (xa 0), .ref ta])).length) Slot.unset).toArray = ls at hl ⊢
  have hl : lv_has ls 3 [(0, .ref (xa 0)), (1, .ref ta)] := hl
  generalize hQe : MQ below _ _ s _ _ _ = Q
  change W p l e ({ frames := 8, cells := (cpN bm (n + (wrQ tn td b).length) - bm), slots := (2 * (cpN bm (n + (wrQ tn td b).length) - bm)), locals := 480 } : Room) s m args below meth c s.heap [] 0 0 Q (F0 m 0 ls [])
  have hd1 := sb_dg8 (v := tn) (by omega)
  have hd2 := sb_dg8 (v := td) (by omega)
  have J_1 : ∀ (L1 : List Nat) (n1 : Nat) (bv1 : Nat) (f1 : Nat → Int32) (H : Heap) (locs : List Loc) (ls : Array Slot), (L1 = L ++ hdQ tn td b) → (L1.length = n1) → (OutH L1 f1) → (sb_Fit f1) → (n ≤ n1 ∧ n1 ≤ n + 20) → va_P (dC, dI) vwCl [((xa 6), .inr (15, [.ref bv1, .int (nI 0), .int ml, .int (nI n1)])), (bv1, .inl (dA 2, (cpN bm n1), .inl f1))] H → va_D A [((xa 6), .inr (15, [.ref bv1, .int (nI 0), .int ml, .int (nI n1)])), (bv1, .inl (dA 2, (cpN bm n1), .inl f1))] → va_S A s.heap H locs → lv_has ls 3 [(0, .ref (xa 0)), (1, .ref ta)] → W p l e ({ frames := 8, cells := (cpN bm (n + (wrQ tn td b).length) - bm), slots := (2 * (cpN bm (n + (wrQ tn td b).length) - bm)), locals := 480 } : Room) s m args below meth c H locs (cpN bm n1 - bm) (2 * (cpN bm n1 - bm)) Q (F0 m 72 ls []) := by
    intro L1 n1 bv1 f1 H locs ls hL1 hn1 hO1 hf1 hb1 hP hD hS hl
    have hq6 : n1 ≤ n + (wrQ tn td b).length := wl_5 hL1 hn hn1
    have hq7 := fun hb => wl_6 hL1 hn hn1 hb
    have hg8 : cpN bm n1 ≤ cpN bm (n + (wrQ tn td b).length) := cp_mono hq6
    have hg1 : bm ≤ cpN bm n1 := cp_gem
    have hg2 : n1 ≤ cpN bm n1 := cp_ge
    have hg3 := cp_bd (m := bm) (N := n1)
    refine lv_aload_n hx hb dX1_writeTerm_72 rfl (lv_at hl 1 rfl) ?_
    refine va_getN (D := (dC, dI)) (ci := 5) (v := .int (nI b)) (C := RX9) (T := TX9) (N := 3) hx hb hts in_X9 hown hK (hR1.up hS) 0 rfl rfl 0 (by decide) (((va_Nw.warmF hG.1 (va_Nw.of rfl (Z.2.1 _ q587)))).use rfl) (fun _ h9 => h9) rfl dX1_writeTerm_73 ?_
    refine lv_if_ne (tgt := 80) hx hb dX1_writeTerm_76 (by decide) (fun c_76 => ?_) (fun c_76 => ?_)
    · have c_76 : ¬ b = 0 := fun h => c_76 ((nI_eq (a := b) (b := 0) (by omega) (by omega)).mpr h)
      have hq8 := hq7 (by omega)
      refine lv_aload_n hx hb dX1_writeTerm_80 rfl (lv_at hl 0 rfl) ?_
      refine va_get (D := (dC, dI)) (ci := 3) (v := .ref (xa 6)) (C := RX1) (T := TX1) (N := 9) hx hb hts in_X1 hown hK (hR0.up hS) 0 rfl rfl 8 (by decide) (hts _ q295) (fun _ h9 => h9) rfl dX1_writeTerm_81 ?_
      refine lv_bipush (v := nI 101) hx hb dX1_writeTerm_84 (by decide) ?_
      have hg1_1 : bm ≤ cpN bm (n1 + 1) := cp_gem
      have hg2_1 : (n1 + 1) ≤ cpN bm (n1 + 1) := cp_ge
      have hg3_1 := cp_bd (m := bm) (N := (n1 + 1))
      have hg6_1 : cpN bm (n1 + 1) ≤ cpN bm (n + (wrQ tn td b).length) := cp_mono (by omega)
      have hg4_1 : cpN bm n1 ≤ cpN (cpN bm n1) (n1 + 1) := cp_gem
      have hg5_1 : cpN (cpN bm n1) (n1 + 1) = cpN bm (n1 + 1) := cp_two (by omega)
      have hg7_1 := cp_ge (m := bm) (N := n1)
      have hF9 := va_free (wc := [((xa 6), .inr (15, [.ref bv1, .int (nI 0), .int ml, .int (nI n1)])), (bv1, .inl (dA 2, (cpN bm n1), .inl f1))]) hD hS (fun q h => hA q h) [0, 1] rfl
      refine c_r (wr := []) (va_runV (As := [.int (nI 101)]) (rest := []) ⟨hx, hb, hml, hown, hts⟩ (j1_appendC Z (va_A [((xa 6), .inr (15, [.ref bv1, .int (nI 0), .int ml, .int (nI n1)])), (bv1, .inl (dA 2, (cpN bm n1), .inl f1))] H.size) H.size (fun q h => Or.inr h) Y2 (xa 6) bv1 (cpN bm n1) n1 ml f1 L1 101 hn1 hO1 hf1  (by omega) (by omega) (by omega)) (cwV 1 hts (lw_V q1907 q1908 q1909 q104 q1910) rfl rfl rfl (by decide +kernel) ⟨Nat.le_of_ble_eq_true rfl, Nat.le_of_ble_eq_true rfl⟩) (gP_V (va_recv hK hP (ci := 15) (q0 := 0) rfl rfl) hG hS (fun q _ h => hF9 q h) ⟨rfl, (hP.sub (ws' := [((xa 6), .inr (15, [.ref bv1, .int (nI 0), .int ml, .int (nI n1)])), (bv1, .inl (dA 2, (cpN bm n1), .inl f1))]) [0, 1] rfl), (hD.sub (ws' := [((xa 6), .inr (15, [.ref bv1, .int (nI 0), .int ml, .int (nI n1)])), (bv1, .inl (dA 2, (cpN bm n1), .inl f1))]) [0, 1] (by decide) rfl).self⟩) rfl rfl hl.1 rfl (lv_room (Nat.le_of_ble_eq_true rfl)) dX1_writeTerm_86 ⟨by first | decide | omega | (show _ ≤ ((cpN bm (n + (wrQ tn td b).length) - bm) : Nat); omega), by first | decide | omega | (show _ ≤ ((2 * (cpN bm (n + (wrQ tn td b).length) - bm)) : Nat); omega)⟩) hP hD hS hA [0, 1] [] rfl rfl (by decide) (by decide) (fun u9 ra9 H locs hq hX hz hk hP hD hS => ?_)
      obtain ⟨ra_2, rfl⟩ : ∃ z, z = ra9 := ⟨_, rfl⟩
      obtain ⟨bv_2, f_2⟩ := u9
      obtain ⟨hO_2, hf_2⟩ := hq
      refine e_v (y := .ref (xa 6)) (congrArg Value.ref hX) ?_
      have hn_2 : (L1 ++ [101]).length = n1 + 1 := (by rw [List.length_append, hn1]; first | rfl | simp)
      have hP : va_P (dC, dI) vwCl [((xa 6), .inr (15, [.ref bv_2, .int (nI 0), .int ml, .int (nI (n1 + 1))])), (bv_2, .inl (dA 2, (cpN (cpN bm n1) (n1 + 1)), .inl f_2))] H := hP
      have hD : va_D A [((xa 6), .inr (15, [.ref bv_2, .int (nI 0), .int ml, .int (nI (n1 + 1))])), (bv_2, .inl (dA 2, (cpN (cpN bm n1) (n1 + 1)), .inl f_2))] := hD
      rw [hg5_1] at hP hD
      have hP : va_P (dC, dI) vwCl [((xa 6), .inr (15, [.ref bv_2, .int (nI 0), .int ml, .int (nI (n1 + 1))])), (bv_2, .inl (dA 2, (cpN bm (n1 + 1)), .inl f_2))] H := hP
      have hD : va_D A [((xa 6), .inr (15, [.ref bv_2, .int (nI 0), .int ml, .int (nI (n1 + 1))])), (bv_2, .inl (dA 2, (cpN bm (n1 + 1)), .inl f_2))] := hD
      refine e_w (cpN bm (n1 + 1) - bm) (2 * (cpN bm (n1 + 1) - bm)) (by omega) (by omega) ?_
      refine lv_pop hx hb dX1_writeTerm_89 rfl ?_
      refine lv_iconst (v := nI 0) hx hb dX1_writeTerm_90 (by decide) ?_
      refine lv_istore_n (lv' := [(2, .int (nI 0)), (0, .ref (xa 0)), (1, .ref ta)]) hx hb dX1_writeTerm_91 rfl hl (by decide) rfl (fun ls hl => ?_)
      have loop_4 : ∀ (n9_4 : Nat) (kv : Nat) (bv2 : Nat) (f2 : Nat → Int32) (H : Heap) (locs : List Loc) (ls : Array Slot), 6 - kv < n9_4 → (kv ≤ 5) → (OutH (L1 ++ [101] ++ vecL b kv) f2) → (sb_Fit f2) → va_P (dC, dI) vwCl [((xa 6), .inr (15, [.ref bv2, .int (nI 0), .int ml, .int (nI (n1 + 1 + (vecL b kv).length))])), (bv2, .inl (dA 2, (cpN bm (n1 + 1 + (vecL b kv).length)), .inl f2))] H → va_D A [((xa 6), .inr (15, [.ref bv2, .int (nI 0), .int ml, .int (nI (n1 + 1 + (vecL b kv).length))])), (bv2, .inl (dA 2, (cpN bm (n1 + 1 + (vecL b kv).length)), .inl f2))] → va_S A s.heap H locs → lv_has ls 3 [(0, .ref (xa 0)), (1, .ref ta), (2, .int (nI kv))] → W p l e ({ frames := 8, cells := (cpN bm (n + (wrQ tn td b).length) - bm), slots := (2 * (cpN bm (n + (wrQ tn td b).length) - bm)), locals := 480 } : Room) s m args below meth c H locs (cpN bm (n1 + 1 + (vecL b kv).length) - bm) (2 * (cpN bm (n1 + 1 + (vecL b kv).length) - bm)) Q (F0 m 92 ls []) := by
        intro n9_4
        induction n9_4 with
        | zero => intro kv bv2 f2 H locs ls hm_4; exact absurd hm_4 (Nat.not_lt_zero _)
        | succ n9_4 ih_4 =>
          intro kv bv2 f2 H locs ls hm_4 hkv hO2 hf2 hP hD hS hl
          have hvl := vecL_len b kv
          have hvm := vecL_mono b hkv
          have hg8 : cpN bm (n1 + 1 + (vecL b kv).length) ≤ cpN bm (n + (wrQ tn td b).length) := cp_mono (by omega)
          have hg1 : bm ≤ cpN bm (n1 + 1 + (vecL b kv).length) := cp_gem
          have hg2 : n1 + 1 + (vecL b kv).length ≤ cpN bm (n1 + 1 + (vecL b kv).length) := cp_ge
          have hg3 := cp_bd (m := bm) (N := n1 + 1 + (vecL b kv).length)
          have hn2 : (L1 ++ [101] ++ vecL b kv).length = n1 + 1 + (vecL b kv).length := by rw [List.length_append, List.length_append, hn1]; rfl
          refine lv_iload_n hx hb dX1_writeTerm_92 rfl (lv_at hl 2 rfl) ?_
          refine lv_iconst (v := nI 5) hx hb dX1_writeTerm_93 (by decide) ?_
          refine lv_icmp_ge (tgt := 126) hx hb dX1_writeTerm_94 (by decide) (fun c_94 => ?_) (fun c_94 => ?_)
          · have c_94 : 5 ≤ kv := (nI_leI (a := 5) (b := kv) (by omega) (by omega)).mp c_94
            obtain rfl : kv = 5 := by omega
            have hLL : L1 ++ [101] ++ vecL b 5 = L ++ wrQ tn td b := wq_1 hL1 (by omega)
            have hnn : n1 + 1 + (vecL b 5).length = n + (wrQ tn td b).length := by rw [← hn2, hLL, List.length_append, hn]
            rw [hnn] at hP hD
            rw [hnn]
            have hOf := hO2
            rw [hLL] at hOf
            have hP : va_P (dC, dI) vwCl [((xa 6), .inr (15, [.ref bv2, .int (nI 0), .int ml, .int (nI (n + (wrQ tn td b).length))])), (bv2, .inl (dA 2, (cpN bm (n + (wrQ tn td b).length)), .inl f2))] H := hP
            have hD : va_D A [((xa 6), .inr (15, [.ref bv2, .int (nI 0), .int ml, .int (nI (n + (wrQ tn td b).length))])), (bv2, .inl (dA 2, (cpN bm (n + (wrQ tn td b).length)), .inl f2))] := hD
            subst hQe
            refine W.widen (k := (cpN bm (n + (wrQ tn td b).length) - bm)) (n := (2 * (cpN bm (n + (wrQ tn td b).length) - bm))) (by first | decide | omega) (by first | decide | omega) ?_
            exact W.vret hx hb hr (fun tz ht hW => ⟨⟨(bv2, f2), rfl, ⟨hOf, hf2⟩, B1_at ht (hP.sub [0, 1] rfl) (hD.sub [0, 1] (by decide) rfl) trivial⟩, hS.F ht⟩) hS.2.2 dX1_writeTerm_126
          · have c_94 : ¬ 5 ≤ kv := fun h => c_94 ((nI_leI (a := 5) (b := kv) (by omega) (by omega)).mpr h)
            refine lv_aload_n hx hb dX1_writeTerm_97 rfl (lv_at hl 1 rfl) ?_
            refine va_getN (D := (dC, dI)) (ci := 5) (v := .int (nI b)) (C := RX9) (T := TX9) (N := 3) hx hb hts in_X9 hown hK (hR1.up hS) 0 rfl rfl 0 (by decide) (((va_Nw.warmF hG.1 (va_Nw.of rfl (Z.2.1 _ q587)))).use rfl) (fun _ h9 => h9) rfl dX1_writeTerm_98 ?_
            refine lv_iload_n hx hb dX1_writeTerm_101 rfl (lv_at hl 2 rfl) ?_
            refine lv_ishr hx hb dX1_writeTerm_102 ?_
            refine e_i (y := nI (b / 2 ^ kv)) (n_shr (by omega) (by omega)) ?_
            refine lv_iconst (v := nI 1) hx hb dX1_writeTerm_103 (by decide) ?_
            refine lv_iand hx hb dX1_writeTerm_104 ?_
            refine e_i (y := nI ((b / 2 ^ kv) &&& 1)) (n_and _ _) ?_
            refine lv_iconst (v := nI 1) hx hb dX1_writeTerm_105 (by decide) ?_
            refine lv_icmp_ne (tgt := 120) hx hb dX1_writeTerm_106 (by decide) (fun c_106 => ?_) (fun c_106 => ?_)
            · have c_106 : ¬ ((b / 2 ^ kv) &&& 1) = 1 := fun h => c_106 ((nI_eq (a := ((b / 2 ^ kv) &&& 1)) (b := 1) (Nat.lt_of_le_of_lt Nat.and_le_right (by decide)) (by omega)).mpr h)
              have hvk : vecL b (kv + 1) = vecL b kv := if_neg c_106
              rw [← hvk] at hP hD
              have hP : va_P (dC, dI) vwCl [((xa 6), .inr (15, [.ref bv2, .int (nI 0), .int ml, .int (nI (n1 + 1 + (vecL b (kv + 1)).length))])), (bv2, .inl (dA 2, (cpN bm (n1 + 1 + (vecL b (kv + 1)).length)), .inl f2))] H := hP
              have hD : va_D A [((xa 6), .inr (15, [.ref bv2, .int (nI 0), .int ml, .int (nI (n1 + 1 + (vecL b (kv + 1)).length))])), (bv2, .inl (dA 2, (cpN bm (n1 + 1 + (vecL b (kv + 1)).length)), .inl f2))] := hD
              rw [← hvk]
              refine lv_iinc (v := nI (kv + 1)) (lv' := [(2, .int (nI (kv + 1))), (0, .ref (xa 0)), (1, .ref ta)]) hx hb dX1_writeTerm_120 hl (k := 2) rfl (by exact nI_add _ 1) (by decide) rfl (fun ls hl => ?_)
              refine lv_goto (tgt := 92) hx hb dX1_writeTerm_123 (by decide) ?_
              exact ih_4 (kv + 1) bv2 f2 H locs ls (by omega) (by omega) (by rw [hvk]; exact hO2) hf2 (hP.sub [0, 1] rfl) (hD.sub [0, 1] (by decide) rfl) hS (lv_sub hl [1, 2, 0] rfl)
            · have c_106 : ((b / 2 ^ kv) &&& 1) = 1 := (nI_eq (a := ((b / 2 ^ kv) &&& 1)) (b := 1) (Nat.lt_of_le_of_lt Nat.and_le_right (by decide)) (by omega)).mp c_106
              have hvs : (vecL b (kv + 1)).length = (vecL b kv).length + 1 := by rw [show vecL b (kv + 1) = vecL b kv ++ [49 + kv] from if_pos c_106, List.length_append]; rfl
              have hvm2 := vecL_mono b (show kv + 1 ≤ 5 by omega)
              refine lv_aload_n hx hb dX1_writeTerm_109 rfl (lv_at hl 0 rfl) ?_
              refine va_get (D := (dC, dI)) (ci := 3) (v := .ref (xa 6)) (C := RX1) (T := TX1) (N := 9) hx hb hts in_X1 hown hK (hR0.up hS) 0 rfl rfl 8 (by decide) (hts _ q295) (fun _ h9 => h9) rfl dX1_writeTerm_110 ?_
              refine lv_iload_n hx hb dX1_writeTerm_113 rfl (lv_at hl 2 rfl) ?_
              refine lv_iconst (v := nI 1) hx hb dX1_writeTerm_114 (by decide) ?_
              refine lv_iadd hx hb dX1_writeTerm_115 ?_
              refine e_i (y := nI (kv + 1)) (nI_add _ _) ?_
              have hg1_4 : bm ≤ cpN bm (n1 + 1 + (vecL b kv).length + 1) := cp_gem
              have hg2_4 : (n1 + 1 + (vecL b kv).length + 1) ≤ cpN bm (n1 + 1 + (vecL b kv).length + 1) := cp_ge
              have hg3_4 := cp_bd (m := bm) (N := (n1 + 1 + (vecL b kv).length + 1))
              have hg6_4 : cpN bm (n1 + 1 + (vecL b kv).length + 1) ≤ cpN bm (n + (wrQ tn td b).length) := cp_mono (by omega)
              have hg4_4 : cpN bm (n1 + 1 + (vecL b kv).length) ≤ cpN (cpN bm (n1 + 1 + (vecL b kv).length)) (n1 + 1 + (vecL b kv).length + 1) := cp_gem
              have hg5_4 : cpN (cpN bm (n1 + 1 + (vecL b kv).length)) (n1 + 1 + (vecL b kv).length + 1) = cpN bm (n1 + 1 + (vecL b kv).length + 1) := cp_two (by omega)
              have hg7_4 := cp_ge (m := bm) (N := (n1 + 1 + (vecL b kv).length))
              have hF9 := va_free (wc := [((xa 6), .inr (15, [.ref bv2, .int (nI 0), .int ml, .int (nI (n1 + 1 + (vecL b kv).length))])), (bv2, .inl (dA 2, (cpN bm (n1 + 1 + (vecL b kv).length)), .inl f2))]) hD hS (fun q h => hA q h) [0, 1] rfl
              refine c_r (wr := []) (va_runV (As := [.int (nI (kv + 1))]) (rest := []) ⟨hx, hb, hml, hown, hts⟩ (j1_appendI Z (va_A [((xa 6), .inr (15, [.ref bv2, .int (nI 0), .int ml, .int (nI (n1 + 1 + (vecL b kv).length))])), (bv2, .inl (dA 2, (cpN bm (n1 + 1 + (vecL b kv).length)), .inl f2))] H.size) H.size (fun q h => Or.inr h) Y2 (xa 6) bv2 (cpN bm (n1 + 1 + (vecL b kv).length)) (n1 + 1 + (vecL b kv).length) ml f2 (L1 ++ [101] ++ vecL b kv) (kv + 1) hn2 hO2 hf2  (by omega) (by omega) (by omega)) (cwV 1 hts (lw_V q1963 q1509 q1510 q104 q1511) rfl rfl rfl (by decide +kernel) ⟨Nat.le_of_ble_eq_true rfl, Nat.le_of_ble_eq_true rfl⟩) (gP_V (va_recv hK hP (ci := 15) (q0 := 0) rfl rfl) hG hS (fun q _ h => hF9 q h) ⟨rfl, (hP.sub (ws' := [((xa 6), .inr (15, [.ref bv2, .int (nI 0), .int ml, .int (nI (n1 + 1 + (vecL b kv).length))])), (bv2, .inl (dA 2, (cpN bm (n1 + 1 + (vecL b kv).length)), .inl f2))]) [0, 1] rfl), (hD.sub (ws' := [((xa 6), .inr (15, [.ref bv2, .int (nI 0), .int ml, .int (nI (n1 + 1 + (vecL b kv).length))])), (bv2, .inl (dA 2, (cpN bm (n1 + 1 + (vecL b kv).length)), .inl f2))]) [0, 1] (by decide) rfl).self⟩) rfl rfl hl.1 rfl (lv_room (Nat.le_of_ble_eq_true rfl)) dX1_writeTerm_116 ⟨by first | decide | omega | (show _ ≤ ((cpN bm (n + (wrQ tn td b).length) - bm) : Nat); omega), by first | decide | omega | (show _ ≤ ((2 * (cpN bm (n + (wrQ tn td b).length) - bm)) : Nat); omega)⟩) hP hD hS hA [0, 1] [] rfl rfl (by decide) (by decide) (fun u9 ra9 H locs hq hX hz hk hP hD hS => ?_)
              obtain ⟨ra_5, rfl⟩ : ∃ z, z = ra9 := ⟨_, rfl⟩
              obtain ⟨bv_5, f_5⟩ := u9
              obtain ⟨hO_5, hf_5⟩ := hq
              refine e_v (y := .ref (xa 6)) (congrArg Value.ref hX) ?_
              have hn_5 : (L1 ++ [101] ++ vecL b kv ++ [48 + (kv + 1)]).length = n1 + 1 + (vecL b kv).length + 1 := (by rw [List.length_append, hn2]; first | rfl | simp)
              have hP : va_P (dC, dI) vwCl [((xa 6), .inr (15, [.ref bv_5, .int (nI 0), .int ml, .int (nI (n1 + 1 + (vecL b kv).length + 1))])), (bv_5, .inl (dA 2, (cpN (cpN bm (n1 + 1 + (vecL b kv).length)) (n1 + 1 + (vecL b kv).length + 1)), .inl f_5))] H := hP
              have hD : va_D A [((xa 6), .inr (15, [.ref bv_5, .int (nI 0), .int ml, .int (nI (n1 + 1 + (vecL b kv).length + 1))])), (bv_5, .inl (dA 2, (cpN (cpN bm (n1 + 1 + (vecL b kv).length)) (n1 + 1 + (vecL b kv).length + 1)), .inl f_5))] := hD
              rw [hg5_4] at hP hD
              have hP : va_P (dC, dI) vwCl [((xa 6), .inr (15, [.ref bv_5, .int (nI 0), .int ml, .int (nI (n1 + 1 + (vecL b kv).length + 1))])), (bv_5, .inl (dA 2, (cpN bm (n1 + 1 + (vecL b kv).length + 1)), .inl f_5))] H := hP
              have hD : va_D A [((xa 6), .inr (15, [.ref bv_5, .int (nI 0), .int ml, .int (nI (n1 + 1 + (vecL b kv).length + 1))])), (bv_5, .inl (dA 2, (cpN bm (n1 + 1 + (vecL b kv).length + 1)), .inl f_5))] := hD
              refine e_w (cpN bm (n1 + 1 + (vecL b kv).length + 1) - bm) (2 * (cpN bm (n1 + 1 + (vecL b kv).length + 1) - bm)) (by omega) (by omega) ?_
              refine lv_pop hx hb dX1_writeTerm_119 rfl ?_
              have hvk : vecL b (kv + 1) = vecL b kv ++ [48 + (kv + 1)] := (if_pos c_106).trans (by rw [show 49 + kv = 48 + (kv + 1) by omega])
              have hvn : n1 + 1 + (vecL b kv).length + 1 = n1 + 1 + (vecL b (kv + 1)).length := by rw [hvk, List.length_append]; rfl
              rw [hvn] at hP hD
              rw [hvn]
              have hP : va_P (dC, dI) vwCl [((xa 6), .inr (15, [.ref bv_5, .int (nI 0), .int ml, .int (nI (n1 + 1 + (vecL b (kv + 1)).length))])), (bv_5, .inl (dA 2, (cpN bm (n1 + 1 + (vecL b (kv + 1)).length)), .inl f_5))] H := hP
              have hD : va_D A [((xa 6), .inr (15, [.ref bv_5, .int (nI 0), .int ml, .int (nI (n1 + 1 + (vecL b (kv + 1)).length))])), (bv_5, .inl (dA 2, (cpN bm (n1 + 1 + (vecL b (kv + 1)).length)), .inl f_5))] := hD
              refine lv_iinc (v := nI (kv + 1)) (lv' := [(2, .int (nI (kv + 1))), (0, .ref (xa 0)), (1, .ref ta)]) hx hb dX1_writeTerm_120 hl (k := 2) rfl (by exact nI_add _ 1) (by decide) rfl (fun ls hl => ?_)
              refine lv_goto (tgt := 92) hx hb dX1_writeTerm_123 (by decide) ?_
              exact ih_4 (kv + 1) bv_5 f_5 H locs ls (by omega) (by omega) (by rw [hvk, ← List.append_assoc]; exact hO_5) hf_5 (hP.sub [0, 1] rfl) (hD.sub [0, 1] (by decide) rfl) hS (lv_sub hl [1, 2, 0] rfl)
      exact loop_4 _ 0 bv_2 f_2 H locs ls (Nat.lt_succ_self _) (by decide) (by rw [show vecL b 0 = [] from rfl, List.append_nil]; exact hO_2) hf_2 (hP.sub [0, 1] rfl) (hD.sub [0, 1] (by decide) rfl) hS (lv_sub hl [1, 2, 0] rfl)
    · have c_76 : b = 0 := (nI_eq (a := b) (b := 0) (by omega) (by omega)).mp c_76
      have hLL : L1 = L ++ wrQ tn td b := wq_0 hL1 (by omega)
      have hnn : n1 = n + (wrQ tn td b).length := by rw [← hn1, hLL, List.length_append, hn]
      rw [hnn] at hP hD
      rw [hnn]
      have hOf := hO1
      rw [hLL] at hOf
      have hP : va_P (dC, dI) vwCl [((xa 6), .inr (15, [.ref bv1, .int (nI 0), .int ml, .int (nI (n + (wrQ tn td b).length))])), (bv1, .inl (dA 2, (cpN bm (n + (wrQ tn td b).length)), .inl f1))] H := hP
      have hD : va_D A [((xa 6), .inr (15, [.ref bv1, .int (nI 0), .int ml, .int (nI (n + (wrQ tn td b).length))])), (bv1, .inl (dA 2, (cpN bm (n + (wrQ tn td b).length)), .inl f1))] := hD
      subst hQe
      refine W.widen (k := (cpN bm (n + (wrQ tn td b).length) - bm)) (n := (2 * (cpN bm (n + (wrQ tn td b).length) - bm))) (by first | decide | omega) (by first | decide | omega) ?_
      exact W.vret hx hb hr (fun tz ht hW => ⟨⟨(bv1, f1), rfl, ⟨hOf, hf1⟩, B1_at ht (hP.sub [0, 1] rfl) (hD.sub [0, 1] (by decide) rfl) trivial⟩, hS.F ht⟩) hS.2.2 dX1_writeTerm_79
  refine lv_aload_n hx hb dX1_writeTerm_0 rfl (lv_at hl 1 rfl) ?_
  refine va_getN (D := (dC, dI)) (ci := 5) (v := .int (nI b)) (C := RX9) (T := TX9) (N := 3) hx hb hts in_X9 hown hK (hR1.up hS) 0 rfl rfl 0 (by decide) (((va_Nw.warmF hG.1 (va_Nw.of rfl (Z.2.1 _ q587)))).use rfl) (fun _ h9 => h9) rfl dX1_writeTerm_1 ?_
  refine lv_if_eq (tgt := 14) hx hb dX1_writeTerm_4 (by decide) (fun c_4 => ?_) (fun c_4 => ?_)
  · have c_4 : b = 0 := (nI_eq (a := b) (b := 0) (by omega) (by omega)).mp c_4
    have hno : ¬ (tn = 1 ∧ td = 1 ∧ b ≠ 0) := fun z => z.2.2 c_4
    have hb0 : ¬ 0 < b := by omega
    have hq1 := wl_1 hno
    refine lv_aload_n hx hb dX1_writeTerm_14 rfl (lv_at hl 0 rfl) ?_
    refine va_get (D := (dC, dI)) (ci := 3) (v := .ref (xa 6)) (C := RX1) (T := TX1) (N := 9) hx hb hts in_X1 hown hK (hR0.up hS) 0 rfl rfl 8 (by decide) (hts _ q295) (fun _ h9 => h9) rfl dX1_writeTerm_15 ?_
    refine lv_aload_n hx hb dX1_writeTerm_18 rfl (lv_at hl 1 rfl) ?_
    refine va_getN (D := (dC, dI)) (ci := 5) (v := .long tx) (C := RX9) (T := TX9) (N := 3) hx hb hts in_X9 hown hK (hR1.up hS) 0 rfl rfl 1 (by decide) (((va_Nw.warmF hG.1 (va_Nw.of rfl (Z.2.1 _ q589)))).use rfl) (fun _ h9 => h9) rfl dX1_writeTerm_19 ?_
    refine va_mabs_long hx hb (hml.trans hl.1.symm) hown (hts _ q516) (hts _ q517) (hts _ q115) (hts _ q518) (Nat.le_of_ble_eq_true rfl) (Nat.le_of_ble_eq_true rfl) (by first | exact Nat.zero_le _ | omega | (show _ ≤ ((cpN bm (n + (wrQ tn td b).length) - bm) : Nat); omega)) (by first | exact Nat.zero_le _ | omega | (show _ ≤ ((2 * (cpN bm (n + (wrQ tn td b).length) - bm)) : Nat); omega)) dX1_writeTerm_22 ?_
    refine e_l (y := absL tx) (abs_if _) ?_
    refine e_l (y := lN tn) (hx9) ?_
    have hg1_6 : bm ≤ cpN bm (n + (sb_dg tn)) := cp_gem
    have hg2_6 : (n + (sb_dg tn)) ≤ cpN bm (n + (sb_dg tn)) := cp_ge
    have hg3_6 := cp_bd (m := bm) (N := (n + (sb_dg tn)))
    have hg6_6 : cpN bm (n + (sb_dg tn)) ≤ cpN bm (n + (wrQ tn td b).length) := cp_mono (by omega)
    have hF9 := va_free (wc := [((xa 6), .inr (15, [.ref bv, .int (nI 0), .int ml, .int (nI n)])), (bv, .inl (dA 2, bm, .inl f))]) hD hS (fun q h => hA q h) [0, 1] rfl
    refine c_r (wr := []) (va_runV (As := [.long (lN tn)]) (rest := []) ⟨hx, hb, hml, hown, hts⟩ (j1_appendJ Z (va_A [((xa 6), .inr (15, [.ref bv, .int (nI 0), .int ml, .int (nI n)])), (bv, .inl (dA 2, bm, .inl f))] s.heap.size) s.heap.size (fun q h => Or.inr h) Y2 (xa 6) bv bm n ml f L tn hn hO hf  (by omega) (by omega) (by omega) (by omega)) (cwV 1 hts (lw_V q1936 q1937 q1938 q104 q1939) rfl rfl rfl (by decide +kernel) ⟨Nat.le_of_ble_eq_true rfl, Nat.le_of_ble_eq_true rfl⟩) (gP_V (va_recv hK hP (ci := 15) (q0 := 0) rfl rfl) hG hS (fun q _ h => hF9 q h) ⟨rfl, (hP.sub (ws' := [((xa 6), .inr (15, [.ref bv, .int (nI 0), .int ml, .int (nI n)])), (bv, .inl (dA 2, bm, .inl f))]) [0, 1] rfl), (hD.sub (ws' := [((xa 6), .inr (15, [.ref bv, .int (nI 0), .int ml, .int (nI n)])), (bv, .inl (dA 2, bm, .inl f))]) [0, 1] (by decide) rfl).self⟩) rfl rfl hl.1 rfl (lv_room (Nat.le_of_ble_eq_true rfl)) dX1_writeTerm_25 ⟨by first | decide | omega | (show _ ≤ ((cpN bm (n + (wrQ tn td b).length) - bm) : Nat); omega), by first | decide | omega | (show _ ≤ ((2 * (cpN bm (n + (wrQ tn td b).length) - bm)) : Nat); omega)⟩) hP hD hS hA [0, 1] [] rfl rfl (by decide) (by decide) (fun u9 ra9 H locs hq hX hz hk hP hD hS => ?_)
    obtain ⟨ra_7, rfl⟩ : ∃ z, z = ra9 := ⟨_, rfl⟩
    obtain ⟨bv_7, f_7⟩ := u9
    obtain ⟨hO_7, hf_7⟩ := hq
    refine e_v (y := .ref (xa 6)) (congrArg Value.ref hX) ?_
    have hn_7 : (L ++ wrN tn).length = n + (sb_dg tn) := (by rw [List.length_append, hn, wrN_len])
    have hP : va_P (dC, dI) vwCl [((xa 6), .inr (15, [.ref bv_7, .int (nI 0), .int ml, .int (nI (n + (sb_dg tn)))])), (bv_7, .inl (dA 2, (cpN bm (n + (sb_dg tn))), .inl f_7))] H := hP
    have hD : va_D A [((xa 6), .inr (15, [.ref bv_7, .int (nI 0), .int ml, .int (nI (n + (sb_dg tn)))])), (bv_7, .inl (dA 2, (cpN bm (n + (sb_dg tn))), .inl f_7))] := hD
    refine e_w (cpN bm (n + (sb_dg tn)) - bm) (2 * (cpN bm (n + (sb_dg tn)) - bm)) (by omega) (by omega) ?_
    refine lv_pop hx hb dX1_writeTerm_28 rfl ?_
    refine lv_aload_n hx hb dX1_writeTerm_29 rfl (lv_at hl 1 rfl) ?_
    refine va_getN (D := (dC, dI)) (ci := 5) (v := .long ty) (C := RX9) (T := TX9) (N := 3) hx hb hts in_X9 hown hK (hR1.up hS) 0 rfl rfl 2 (by decide) (((va_Nw.warmF hG.1 (va_Nw.of rfl (Z.2.1 _ q591)))).use rfl) (fun _ h9 => h9) rfl dX1_writeTerm_30 ?_
    refine e_l (y := lN td) (hy9) ?_
    refine lv_lconst (v := 1) hx hb dX1_writeTerm_33 rfl ?_
    refine W.lcmp hx hb dX1_writeTerm_34 ?_
    refine lv_if_le (tgt := 55) hx hb dX1_writeTerm_35 (by decide) (fun c_35 => ?_) (fun c_35 => ?_)
    · have c_35 : (lN td) ≤ 1 := (lg_cmp_le _ _).mp c_35
      have hd9 : ¬ 1 < td := wt_le hd8 c_35
      refine lv_aload_n hx hb dX1_writeTerm_55 rfl (lv_at hl 1 rfl) ?_
      refine va_getN (D := (dC, dI)) (ci := 5) (v := .int (nI b)) (C := RX9) (T := TX9) (N := 3) hx hb hts in_X9 hown hK (hR1.up hS) 0 rfl rfl 0 (by decide) (((va_Nw.warmF hG.1 (va_Nw.of rfl (Z.2.1 _ q587)))).use rfl) (fun _ h9 => h9) rfl dX1_writeTerm_56 ?_
      refine lv_if_eq (tgt := 72) hx hb dX1_writeTerm_59 (by decide) (fun c_59 => ?_) (fun c_59 => ?_)
      · have c_59 : b = 0 := (nI_eq (a := b) (b := 0) (by omega) (by omega)).mp c_59
        exact J_1 (L ++ wrN tn) (n + (sb_dg tn)) bv_7 f_7 H locs ls (hd_2 hno hd9 (by omega)) hn_7 hO_7 hf_7 (by omega) (hP.sub [0, 1] rfl) (hD.sub [0, 1] (by decide) rfl) hS (lv_sub hl [0, 1] rfl)
      · have c_59 : ¬ b = 0 := fun h => c_59 ((nI_eq (a := b) (b := 0) (by omega) (by omega)).mpr h)
        have hq4 := wl_2 hno (show 0 < b by omega)
        refine lv_aload_n hx hb dX1_writeTerm_62 rfl (lv_at hl 0 rfl) ?_
        refine va_get (D := (dC, dI)) (ci := 3) (v := .ref (xa 6)) (C := RX1) (T := TX1) (N := 9) hx hb hts in_X1 hown hK (hR0.up hS) 0 rfl rfl 8 (by decide) (hts _ q295) (fun _ h9 => h9) rfl dX1_writeTerm_63 ?_
        refine lv_bipush (v := nI 42) hx hb dX1_writeTerm_66 (by decide) ?_
        have hg1_8 : bm ≤ cpN bm (n + (sb_dg tn) + 1) := cp_gem
        have hg2_8 : (n + (sb_dg tn) + 1) ≤ cpN bm (n + (sb_dg tn) + 1) := cp_ge
        have hg3_8 := cp_bd (m := bm) (N := (n + (sb_dg tn) + 1))
        have hg6_8 : cpN bm (n + (sb_dg tn) + 1) ≤ cpN bm (n + (wrQ tn td b).length) := cp_mono (by omega)
        have hg4_8 : cpN bm (n + (sb_dg tn)) ≤ cpN (cpN bm (n + (sb_dg tn))) (n + (sb_dg tn) + 1) := cp_gem
        have hg5_8 : cpN (cpN bm (n + (sb_dg tn))) (n + (sb_dg tn) + 1) = cpN bm (n + (sb_dg tn) + 1) := cp_two (by omega)
        have hg7_8 := cp_ge (m := bm) (N := (n + (sb_dg tn)))
        have hF9 := va_free (wc := [((xa 6), .inr (15, [.ref bv_7, .int (nI 0), .int ml, .int (nI (n + (sb_dg tn)))])), (bv_7, .inl (dA 2, (cpN bm (n + (sb_dg tn))), .inl f_7))]) hD hS (fun q h => hA q h) [0, 1] rfl
        refine c_r (wr := []) (va_runV (As := [.int (nI 42)]) (rest := []) ⟨hx, hb, hml, hown, hts⟩ (j1_appendC Z (va_A [((xa 6), .inr (15, [.ref bv_7, .int (nI 0), .int ml, .int (nI (n + (sb_dg tn)))])), (bv_7, .inl (dA 2, (cpN bm (n + (sb_dg tn))), .inl f_7))] H.size) H.size (fun q h => Or.inr h) Y2 (xa 6) bv_7 (cpN bm (n + (sb_dg tn))) (n + (sb_dg tn)) ml f_7 (L ++ wrN tn) 42 hn_7 hO_7 hf_7  (by omega) (by omega) (by omega)) (cwV 1 hts (lw_V q1907 q1908 q1909 q104 q1910) rfl rfl rfl (by decide +kernel) ⟨Nat.le_of_ble_eq_true rfl, Nat.le_of_ble_eq_true rfl⟩) (gP_V (va_recv hK hP (ci := 15) (q0 := 0) rfl rfl) hG hS (fun q _ h => hF9 q h) ⟨rfl, (hP.sub (ws' := [((xa 6), .inr (15, [.ref bv_7, .int (nI 0), .int ml, .int (nI (n + (sb_dg tn)))])), (bv_7, .inl (dA 2, (cpN bm (n + (sb_dg tn))), .inl f_7))]) [0, 1] rfl), (hD.sub (ws' := [((xa 6), .inr (15, [.ref bv_7, .int (nI 0), .int ml, .int (nI (n + (sb_dg tn)))])), (bv_7, .inl (dA 2, (cpN bm (n + (sb_dg tn))), .inl f_7))]) [0, 1] (by decide) rfl).self⟩) rfl rfl hl.1 rfl (lv_room (Nat.le_of_ble_eq_true rfl)) dX1_writeTerm_68 ⟨by first | decide | omega | (show _ ≤ ((cpN bm (n + (wrQ tn td b).length) - bm) : Nat); omega), by first | decide | omega | (show _ ≤ ((2 * (cpN bm (n + (wrQ tn td b).length) - bm)) : Nat); omega)⟩) hP hD hS hA [0, 1] [] rfl rfl (by decide) (by decide) (fun u9 ra9 H locs hq hX hz hk hP hD hS => ?_)
        obtain ⟨ra_9, rfl⟩ : ∃ z, z = ra9 := ⟨_, rfl⟩
        obtain ⟨bv_9, f_9⟩ := u9
        obtain ⟨hO_9, hf_9⟩ := hq
        refine e_v (y := .ref (xa 6)) (congrArg Value.ref hX) ?_
        have hn_9 : (L ++ wrN tn ++ [42]).length = n + (sb_dg tn) + 1 := (by rw [List.length_append, hn_7]; first | rfl | simp)
        have hP : va_P (dC, dI) vwCl [((xa 6), .inr (15, [.ref bv_9, .int (nI 0), .int ml, .int (nI (n + (sb_dg tn) + 1))])), (bv_9, .inl (dA 2, (cpN (cpN bm (n + (sb_dg tn))) (n + (sb_dg tn) + 1)), .inl f_9))] H := hP
        have hD : va_D A [((xa 6), .inr (15, [.ref bv_9, .int (nI 0), .int ml, .int (nI (n + (sb_dg tn) + 1))])), (bv_9, .inl (dA 2, (cpN (cpN bm (n + (sb_dg tn))) (n + (sb_dg tn) + 1)), .inl f_9))] := hD
        rw [hg5_8] at hP hD
        have hP : va_P (dC, dI) vwCl [((xa 6), .inr (15, [.ref bv_9, .int (nI 0), .int ml, .int (nI (n + (sb_dg tn) + 1))])), (bv_9, .inl (dA 2, (cpN bm (n + (sb_dg tn) + 1)), .inl f_9))] H := hP
        have hD : va_D A [((xa 6), .inr (15, [.ref bv_9, .int (nI 0), .int ml, .int (nI (n + (sb_dg tn) + 1))])), (bv_9, .inl (dA 2, (cpN bm (n + (sb_dg tn) + 1)), .inl f_9))] := hD
        refine e_w (cpN bm (n + (sb_dg tn) + 1) - bm) (2 * (cpN bm (n + (sb_dg tn) + 1) - bm)) (by omega) (by omega) ?_
        refine lv_pop hx hb dX1_writeTerm_71 rfl ?_
        exact J_1 (L ++ wrN tn ++ [42]) (n + (sb_dg tn) + 1) bv_9 f_9 H locs ls (hd_3 hno hd9 (by omega)) hn_9 hO_9 hf_9 (by omega) (hP.sub [0, 1] rfl) (hD.sub [0, 1] (by decide) rfl) hS (lv_sub hl [0, 1] rfl)
    · have c_35 : ¬ (lN td) ≤ 1 := fun h => c_35 ((lg_cmp_le _ _).mpr h)
      have hd9 : 1 < td := wt_gt hd8 c_35
      have hq3 := wl_3 hno hd9
      refine lv_aload_n hx hb dX1_writeTerm_38 rfl (lv_at hl 0 rfl) ?_
      refine va_get (D := (dC, dI)) (ci := 3) (v := .ref (xa 6)) (C := RX1) (T := TX1) (N := 9) hx hb hts in_X1 hown hK (hR0.up hS) 0 rfl rfl 8 (by decide) (hts _ q295) (fun _ h9 => h9) rfl dX1_writeTerm_39 ?_
      refine lv_bipush (v := nI 47) hx hb dX1_writeTerm_42 (by decide) ?_
      have hg1_10 : bm ≤ cpN bm (n + (sb_dg tn) + 1) := cp_gem
      have hg2_10 : (n + (sb_dg tn) + 1) ≤ cpN bm (n + (sb_dg tn) + 1) := cp_ge
      have hg3_10 := cp_bd (m := bm) (N := (n + (sb_dg tn) + 1))
      have hg6_10 : cpN bm (n + (sb_dg tn) + 1) ≤ cpN bm (n + (wrQ tn td b).length) := cp_mono (by omega)
      have hg4_10 : cpN bm (n + (sb_dg tn)) ≤ cpN (cpN bm (n + (sb_dg tn))) (n + (sb_dg tn) + 1) := cp_gem
      have hg5_10 : cpN (cpN bm (n + (sb_dg tn))) (n + (sb_dg tn) + 1) = cpN bm (n + (sb_dg tn) + 1) := cp_two (by omega)
      have hg7_10 := cp_ge (m := bm) (N := (n + (sb_dg tn)))
      have hF9 := va_free (wc := [((xa 6), .inr (15, [.ref bv_7, .int (nI 0), .int ml, .int (nI (n + (sb_dg tn)))])), (bv_7, .inl (dA 2, (cpN bm (n + (sb_dg tn))), .inl f_7))]) hD hS (fun q h => hA q h) [0, 1] rfl
      refine c_r (wr := []) (va_runV (As := [.int (nI 47)]) (rest := []) ⟨hx, hb, hml, hown, hts⟩ (j1_appendC Z (va_A [((xa 6), .inr (15, [.ref bv_7, .int (nI 0), .int ml, .int (nI (n + (sb_dg tn)))])), (bv_7, .inl (dA 2, (cpN bm (n + (sb_dg tn))), .inl f_7))] H.size) H.size (fun q h => Or.inr h) Y2 (xa 6) bv_7 (cpN bm (n + (sb_dg tn))) (n + (sb_dg tn)) ml f_7 (L ++ wrN tn) 47 hn_7 hO_7 hf_7  (by omega) (by omega) (by omega)) (cwV 1 hts (lw_V q1907 q1908 q1909 q104 q1910) rfl rfl rfl (by decide +kernel) ⟨Nat.le_of_ble_eq_true rfl, Nat.le_of_ble_eq_true rfl⟩) (gP_V (va_recv hK hP (ci := 15) (q0 := 0) rfl rfl) hG hS (fun q _ h => hF9 q h) ⟨rfl, (hP.sub (ws' := [((xa 6), .inr (15, [.ref bv_7, .int (nI 0), .int ml, .int (nI (n + (sb_dg tn)))])), (bv_7, .inl (dA 2, (cpN bm (n + (sb_dg tn))), .inl f_7))]) [0, 1] rfl), (hD.sub (ws' := [((xa 6), .inr (15, [.ref bv_7, .int (nI 0), .int ml, .int (nI (n + (sb_dg tn)))])), (bv_7, .inl (dA 2, (cpN bm (n + (sb_dg tn))), .inl f_7))]) [0, 1] (by decide) rfl).self⟩) rfl rfl hl.1 rfl (lv_room (Nat.le_of_ble_eq_true rfl)) dX1_writeTerm_44 ⟨by first | decide | omega | (show _ ≤ ((cpN bm (n + (wrQ tn td b).length) - bm) : Nat); omega), by first | decide | omega | (show _ ≤ ((2 * (cpN bm (n + (wrQ tn td b).length) - bm)) : Nat); omega)⟩) hP hD hS hA [0, 1] [] rfl rfl (by decide) (by decide) (fun u9 ra9 H locs hq hX hz hk hP hD hS => ?_)
      obtain ⟨ra_11, rfl⟩ : ∃ z, z = ra9 := ⟨_, rfl⟩
      obtain ⟨bv_11, f_11⟩ := u9
      obtain ⟨hO_11, hf_11⟩ := hq
      refine e_v (y := .ref (xa 6)) (congrArg Value.ref hX) ?_
      have hn_11 : (L ++ wrN tn ++ [47]).length = n + (sb_dg tn) + 1 := (by rw [List.length_append, hn_7]; first | rfl | simp)
      have hP : va_P (dC, dI) vwCl [((xa 6), .inr (15, [.ref bv_11, .int (nI 0), .int ml, .int (nI (n + (sb_dg tn) + 1))])), (bv_11, .inl (dA 2, (cpN (cpN bm (n + (sb_dg tn))) (n + (sb_dg tn) + 1)), .inl f_11))] H := hP
      have hD : va_D A [((xa 6), .inr (15, [.ref bv_11, .int (nI 0), .int ml, .int (nI (n + (sb_dg tn) + 1))])), (bv_11, .inl (dA 2, (cpN (cpN bm (n + (sb_dg tn))) (n + (sb_dg tn) + 1)), .inl f_11))] := hD
      rw [hg5_10] at hP hD
      have hP : va_P (dC, dI) vwCl [((xa 6), .inr (15, [.ref bv_11, .int (nI 0), .int ml, .int (nI (n + (sb_dg tn) + 1))])), (bv_11, .inl (dA 2, (cpN bm (n + (sb_dg tn) + 1)), .inl f_11))] H := hP
      have hD : va_D A [((xa 6), .inr (15, [.ref bv_11, .int (nI 0), .int ml, .int (nI (n + (sb_dg tn) + 1))])), (bv_11, .inl (dA 2, (cpN bm (n + (sb_dg tn) + 1)), .inl f_11))] := hD
      refine e_w (cpN bm (n + (sb_dg tn) + 1) - bm) (2 * (cpN bm (n + (sb_dg tn) + 1) - bm)) (by omega) (by omega) ?_
      refine lv_aload_n hx hb dX1_writeTerm_47 rfl (lv_at hl 1 rfl) ?_
      refine va_getN (D := (dC, dI)) (ci := 5) (v := .long ty) (C := RX9) (T := TX9) (N := 3) hx hb hts in_X9 hown hK (hR1.up hS) 0 rfl rfl 2 (by decide) (((va_Nw.warmF hG.1 (va_Nw.of rfl (Z.2.1 _ q591)))).use rfl) (fun _ h9 => h9) rfl dX1_writeTerm_48 ?_
      refine e_l (y := lN td) (hy9) ?_
      have hg1_12 : bm ≤ cpN bm (n + (sb_dg tn) + 1 + (sb_dg td)) := cp_gem
      have hg2_12 : (n + (sb_dg tn) + 1 + (sb_dg td)) ≤ cpN bm (n + (sb_dg tn) + 1 + (sb_dg td)) := cp_ge
      have hg3_12 := cp_bd (m := bm) (N := (n + (sb_dg tn) + 1 + (sb_dg td)))
      have hg6_12 : cpN bm (n + (sb_dg tn) + 1 + (sb_dg td)) ≤ cpN bm (n + (wrQ tn td b).length) := cp_mono (by omega)
      have hg4_12 : cpN bm (n + (sb_dg tn) + 1) ≤ cpN (cpN bm (n + (sb_dg tn) + 1)) (n + (sb_dg tn) + 1 + (sb_dg td)) := cp_gem
      have hg5_12 : cpN (cpN bm (n + (sb_dg tn) + 1)) (n + (sb_dg tn) + 1 + (sb_dg td)) = cpN bm (n + (sb_dg tn) + 1 + (sb_dg td)) := cp_two (by omega)
      have hg7_12 := cp_ge (m := bm) (N := (n + (sb_dg tn) + 1))
      have hF9 := va_free (wc := [((xa 6), .inr (15, [.ref bv_11, .int (nI 0), .int ml, .int (nI (n + (sb_dg tn) + 1))])), (bv_11, .inl (dA 2, (cpN bm (n + (sb_dg tn) + 1)), .inl f_11))]) hD hS (fun q h => hA q h) [0, 1] rfl
      refine c_r (wr := []) (va_runV (As := [.long (lN td)]) (rest := []) ⟨hx, hb, hml, hown, hts⟩ (j1_appendJ Z (va_A [((xa 6), .inr (15, [.ref bv_11, .int (nI 0), .int ml, .int (nI (n + (sb_dg tn) + 1))])), (bv_11, .inl (dA 2, (cpN bm (n + (sb_dg tn) + 1)), .inl f_11))] H.size) H.size (fun q h => Or.inr h) Y2 (xa 6) bv_11 (cpN bm (n + (sb_dg tn) + 1)) (n + (sb_dg tn) + 1) ml f_11 (L ++ wrN tn ++ [47]) td hn_11 hO_11 hf_11  (by omega) (by omega) (by omega) (by omega)) (cwV 1 hts (lw_V q1936 q1937 q1938 q104 q1939) rfl rfl rfl (by decide +kernel) ⟨Nat.le_of_ble_eq_true rfl, Nat.le_of_ble_eq_true rfl⟩) (gP_V (va_recv hK hP (ci := 15) (q0 := 0) rfl rfl) hG hS (fun q _ h => hF9 q h) ⟨rfl, (hP.sub (ws' := [((xa 6), .inr (15, [.ref bv_11, .int (nI 0), .int ml, .int (nI (n + (sb_dg tn) + 1))])), (bv_11, .inl (dA 2, (cpN bm (n + (sb_dg tn) + 1)), .inl f_11))]) [0, 1] rfl), (hD.sub (ws' := [((xa 6), .inr (15, [.ref bv_11, .int (nI 0), .int ml, .int (nI (n + (sb_dg tn) + 1))])), (bv_11, .inl (dA 2, (cpN bm (n + (sb_dg tn) + 1)), .inl f_11))]) [0, 1] (by decide) rfl).self⟩) rfl rfl hl.1 rfl (lv_room (Nat.le_of_ble_eq_true rfl)) dX1_writeTerm_51 ⟨by first | decide | omega | (show _ ≤ ((cpN bm (n + (wrQ tn td b).length) - bm) : Nat); omega), by first | decide | omega | (show _ ≤ ((2 * (cpN bm (n + (wrQ tn td b).length) - bm)) : Nat); omega)⟩) hP hD hS hA [0, 1] [] rfl rfl (by decide) (by decide) (fun u9 ra9 H locs hq hX hz hk hP hD hS => ?_)
      obtain ⟨ra_13, rfl⟩ : ∃ z, z = ra9 := ⟨_, rfl⟩
      obtain ⟨bv_13, f_13⟩ := u9
      obtain ⟨hO_13, hf_13⟩ := hq
      refine e_v (y := .ref (xa 6)) (congrArg Value.ref hX) ?_
      have hn_13 : (L ++ wrN tn ++ [47] ++ wrN td).length = n + (sb_dg tn) + 1 + (sb_dg td) := (by rw [List.length_append, hn_11, wrN_len])
      have hP : va_P (dC, dI) vwCl [((xa 6), .inr (15, [.ref bv_13, .int (nI 0), .int ml, .int (nI (n + (sb_dg tn) + 1 + (sb_dg td)))])), (bv_13, .inl (dA 2, (cpN (cpN bm (n + (sb_dg tn) + 1)) (n + (sb_dg tn) + 1 + (sb_dg td))), .inl f_13))] H := hP
      have hD : va_D A [((xa 6), .inr (15, [.ref bv_13, .int (nI 0), .int ml, .int (nI (n + (sb_dg tn) + 1 + (sb_dg td)))])), (bv_13, .inl (dA 2, (cpN (cpN bm (n + (sb_dg tn) + 1)) (n + (sb_dg tn) + 1 + (sb_dg td))), .inl f_13))] := hD
      rw [hg5_12] at hP hD
      have hP : va_P (dC, dI) vwCl [((xa 6), .inr (15, [.ref bv_13, .int (nI 0), .int ml, .int (nI (n + (sb_dg tn) + 1 + (sb_dg td)))])), (bv_13, .inl (dA 2, (cpN bm (n + (sb_dg tn) + 1 + (sb_dg td))), .inl f_13))] H := hP
      have hD : va_D A [((xa 6), .inr (15, [.ref bv_13, .int (nI 0), .int ml, .int (nI (n + (sb_dg tn) + 1 + (sb_dg td)))])), (bv_13, .inl (dA 2, (cpN bm (n + (sb_dg tn) + 1 + (sb_dg td))), .inl f_13))] := hD
      refine e_w (cpN bm (n + (sb_dg tn) + 1 + (sb_dg td)) - bm) (2 * (cpN bm (n + (sb_dg tn) + 1 + (sb_dg td)) - bm)) (by omega) (by omega) ?_
      refine lv_pop hx hb dX1_writeTerm_54 rfl ?_
      refine lv_aload_n hx hb dX1_writeTerm_55 rfl (lv_at hl 1 rfl) ?_
      refine va_getN (D := (dC, dI)) (ci := 5) (v := .int (nI b)) (C := RX9) (T := TX9) (N := 3) hx hb hts in_X9 hown hK (hR1.up hS) 0 rfl rfl 0 (by decide) (((va_Nw.warmF hG.1 (va_Nw.of rfl (Z.2.1 _ q587)))).use rfl) (fun _ h9 => h9) rfl dX1_writeTerm_56 ?_
      refine lv_if_eq (tgt := 72) hx hb dX1_writeTerm_59 (by decide) (fun c_59 => ?_) (fun c_59 => ?_)
      · have c_59 : b = 0 := (nI_eq (a := b) (b := 0) (by omega) (by omega)).mp c_59
        exact J_1 (L ++ wrN tn ++ [47] ++ wrN td) (n + (sb_dg tn) + 1 + (sb_dg td)) bv_13 f_13 H locs ls (hd_4 hno hd9 (by omega)) hn_13 hO_13 hf_13 (by omega) (hP.sub [0, 1] rfl) (hD.sub [0, 1] (by decide) rfl) hS (lv_sub hl [0, 1] rfl)
      · have c_59 : ¬ b = 0 := fun h => c_59 ((nI_eq (a := b) (b := 0) (by omega) (by omega)).mpr h)
        have hq4 := wl_2 hno (show 0 < b by omega)
        have hq5 := wl_4 hno hd9 (show 0 < b by omega)
        refine lv_aload_n hx hb dX1_writeTerm_62 rfl (lv_at hl 0 rfl) ?_
        refine va_get (D := (dC, dI)) (ci := 3) (v := .ref (xa 6)) (C := RX1) (T := TX1) (N := 9) hx hb hts in_X1 hown hK (hR0.up hS) 0 rfl rfl 8 (by decide) (hts _ q295) (fun _ h9 => h9) rfl dX1_writeTerm_63 ?_
        refine lv_bipush (v := nI 42) hx hb dX1_writeTerm_66 (by decide) ?_
        have hg1_14 : bm ≤ cpN bm (n + (sb_dg tn) + 1 + (sb_dg td) + 1) := cp_gem
        have hg2_14 : (n + (sb_dg tn) + 1 + (sb_dg td) + 1) ≤ cpN bm (n + (sb_dg tn) + 1 + (sb_dg td) + 1) := cp_ge
        have hg3_14 := cp_bd (m := bm) (N := (n + (sb_dg tn) + 1 + (sb_dg td) + 1))
        have hg6_14 : cpN bm (n + (sb_dg tn) + 1 + (sb_dg td) + 1) ≤ cpN bm (n + (wrQ tn td b).length) := cp_mono (by omega)
        have hg4_14 : cpN bm (n + (sb_dg tn) + 1 + (sb_dg td)) ≤ cpN (cpN bm (n + (sb_dg tn) + 1 + (sb_dg td))) (n + (sb_dg tn) + 1 + (sb_dg td) + 1) := cp_gem
        have hg5_14 : cpN (cpN bm (n + (sb_dg tn) + 1 + (sb_dg td))) (n + (sb_dg tn) + 1 + (sb_dg td) + 1) = cpN bm (n + (sb_dg tn) + 1 + (sb_dg td) + 1) := cp_two (by omega)
        have hg7_14 := cp_ge (m := bm) (N := (n + (sb_dg tn) + 1 + (sb_dg td)))
        have hF9 := va_free (wc := [((xa 6), .inr (15, [.ref bv_13, .int (nI 0), .int ml, .int (nI (n + (sb_dg tn) + 1 + (sb_dg td)))])), (bv_13, .inl (dA 2, (cpN bm (n + (sb_dg tn) + 1 + (sb_dg td))), .inl f_13))]) hD hS (fun q h => hA q h) [0, 1] rfl
        refine c_r (wr := []) (va_runV (As := [.int (nI 42)]) (rest := []) ⟨hx, hb, hml, hown, hts⟩ (j1_appendC Z (va_A [((xa 6), .inr (15, [.ref bv_13, .int (nI 0), .int ml, .int (nI (n + (sb_dg tn) + 1 + (sb_dg td)))])), (bv_13, .inl (dA 2, (cpN bm (n + (sb_dg tn) + 1 + (sb_dg td))), .inl f_13))] H.size) H.size (fun q h => Or.inr h) Y2 (xa 6) bv_13 (cpN bm (n + (sb_dg tn) + 1 + (sb_dg td))) (n + (sb_dg tn) + 1 + (sb_dg td)) ml f_13 (L ++ wrN tn ++ [47] ++ wrN td) 42 hn_13 hO_13 hf_13  (by omega) (by omega) (by omega)) (cwV 1 hts (lw_V q1907 q1908 q1909 q104 q1910) rfl rfl rfl (by decide +kernel) ⟨Nat.le_of_ble_eq_true rfl, Nat.le_of_ble_eq_true rfl⟩) (gP_V (va_recv hK hP (ci := 15) (q0 := 0) rfl rfl) hG hS (fun q _ h => hF9 q h) ⟨rfl, (hP.sub (ws' := [((xa 6), .inr (15, [.ref bv_13, .int (nI 0), .int ml, .int (nI (n + (sb_dg tn) + 1 + (sb_dg td)))])), (bv_13, .inl (dA 2, (cpN bm (n + (sb_dg tn) + 1 + (sb_dg td))), .inl f_13))]) [0, 1] rfl), (hD.sub (ws' := [((xa 6), .inr (15, [.ref bv_13, .int (nI 0), .int ml, .int (nI (n + (sb_dg tn) + 1 + (sb_dg td)))])), (bv_13, .inl (dA 2, (cpN bm (n + (sb_dg tn) + 1 + (sb_dg td))), .inl f_13))]) [0, 1] (by decide) rfl).self⟩) rfl rfl hl.1 rfl (lv_room (Nat.le_of_ble_eq_true rfl)) dX1_writeTerm_68 ⟨by first | decide | omega | (show _ ≤ ((cpN bm (n + (wrQ tn td b).length) - bm) : Nat); omega), by first | decide | omega | (show _ ≤ ((2 * (cpN bm (n + (wrQ tn td b).length) - bm)) : Nat); omega)⟩) hP hD hS hA [0, 1] [] rfl rfl (by decide) (by decide) (fun u9 ra9 H locs hq hX hz hk hP hD hS => ?_)
        obtain ⟨ra_15, rfl⟩ : ∃ z, z = ra9 := ⟨_, rfl⟩
        obtain ⟨bv_15, f_15⟩ := u9
        obtain ⟨hO_15, hf_15⟩ := hq
        refine e_v (y := .ref (xa 6)) (congrArg Value.ref hX) ?_
        have hn_15 : (L ++ wrN tn ++ [47] ++ wrN td ++ [42]).length = n + (sb_dg tn) + 1 + (sb_dg td) + 1 := (by rw [List.length_append, hn_13]; first | rfl | simp)
        have hP : va_P (dC, dI) vwCl [((xa 6), .inr (15, [.ref bv_15, .int (nI 0), .int ml, .int (nI (n + (sb_dg tn) + 1 + (sb_dg td) + 1))])), (bv_15, .inl (dA 2, (cpN (cpN bm (n + (sb_dg tn) + 1 + (sb_dg td))) (n + (sb_dg tn) + 1 + (sb_dg td) + 1)), .inl f_15))] H := hP
        have hD : va_D A [((xa 6), .inr (15, [.ref bv_15, .int (nI 0), .int ml, .int (nI (n + (sb_dg tn) + 1 + (sb_dg td) + 1))])), (bv_15, .inl (dA 2, (cpN (cpN bm (n + (sb_dg tn) + 1 + (sb_dg td))) (n + (sb_dg tn) + 1 + (sb_dg td) + 1)), .inl f_15))] := hD
        rw [hg5_14] at hP hD
        have hP : va_P (dC, dI) vwCl [((xa 6), .inr (15, [.ref bv_15, .int (nI 0), .int ml, .int (nI (n + (sb_dg tn) + 1 + (sb_dg td) + 1))])), (bv_15, .inl (dA 2, (cpN bm (n + (sb_dg tn) + 1 + (sb_dg td) + 1)), .inl f_15))] H := hP
        have hD : va_D A [((xa 6), .inr (15, [.ref bv_15, .int (nI 0), .int ml, .int (nI (n + (sb_dg tn) + 1 + (sb_dg td) + 1))])), (bv_15, .inl (dA 2, (cpN bm (n + (sb_dg tn) + 1 + (sb_dg td) + 1)), .inl f_15))] := hD
        refine e_w (cpN bm (n + (sb_dg tn) + 1 + (sb_dg td) + 1) - bm) (2 * (cpN bm (n + (sb_dg tn) + 1 + (sb_dg td) + 1) - bm)) (by omega) (by omega) ?_
        refine lv_pop hx hb dX1_writeTerm_71 rfl ?_
        exact J_1 (L ++ wrN tn ++ [47] ++ wrN td ++ [42]) (n + (sb_dg tn) + 1 + (sb_dg td) + 1) bv_15 f_15 H locs ls (hd_5 hno hd9 (by omega)) hn_15 hO_15 hf_15 (by omega) (hP.sub [0, 1] rfl) (hD.sub [0, 1] (by decide) rfl) hS (lv_sub hl [0, 1] rfl)
  · have c_4 : ¬ b = 0 := fun h => c_4 ((nI_eq (a := b) (b := 0) (by omega) (by omega)).mpr h)
    refine lv_aload_n hx hb dX1_writeTerm_7 rfl (lv_at hl 1 rfl) ?_
    refine s_i (va_runV (As := []) (rest := []) ⟨hx, hb, hml, hown, hts⟩ (x9_isOne Z ta (nI b) tx ty) (cwV 0 hts (lw_V q1931 q1932 q1933 q117 q1934) rfl rfl rfl (by decide +kernel) ⟨Nat.le_of_ble_eq_true rfl, Nat.le_of_ble_eq_true rfl⟩) (gP_V (va_recv hK (hR1.up hS) (ci := 5) (q0 := 0) rfl rfl) hG hS (fun q _ h => h.elim) ((hR1.up hS).sub (ws' := [(ta, .inr (5, [.int (nI b), .long tx, .long ty]))]) [0] rfl)) rfl rfl hl.1 rfl (lv_room (Nat.le_of_ble_eq_true rfl)) dX1_writeTerm_8 ⟨by first | decide | omega | (show _ ≤ ((cpN bm (n + (wrQ tn td b).length) - bm) : Nat); omega), by first | decide | omega | (show _ ≤ ((2 * (cpN bm (n + (wrQ tn td b).length) - bm)) : Nat); omega)⟩) ?_
    refine lv_if_ne (tgt := 72) hx hb dX1_writeTerm_11 (by decide) (fun c_11 => ?_) (fun c_11 => ?_)
    · obtain ⟨ho1, ho2⟩ := wt_1 hx9 hy9 ht8 hd8 (bI_1 c_11)
      have hyes : tn = 1 ∧ td = 1 ∧ b ≠ 0 := ⟨ho1, ho2, c_4⟩
      have hcn := cp_le h2
      rw [← hcn] at hP hD
      refine e_w (cpN bm n - bm) (2 * (cpN bm n - bm)) (by omega) (by omega) ?_
      exact J_1 L n bv f s.heap [] ls (hd_1 hyes) hn hO hf (by omega) (hP.sub [0, 1] rfl) (hD.sub [0, 1] (by decide) rfl) hS (lv_sub hl [0, 1] rfl)
    · have hno : ¬ (tn = 1 ∧ td = 1 ∧ b ≠ 0) := fun z => by have h9 := wt_0 hx9 hy9 z; rw [bI_0 c_11] at h9; cases h9
      have hb0 : 0 < b := by omega
      have hq1 := wl_1 hno
      have hq2 := wl_2 hno hb0
      refine lv_aload_n hx hb dX1_writeTerm_14 rfl (lv_at hl 0 rfl) ?_
      refine va_get (D := (dC, dI)) (ci := 3) (v := .ref (xa 6)) (C := RX1) (T := TX1) (N := 9) hx hb hts in_X1 hown hK (hR0.up hS) 0 rfl rfl 8 (by decide) (hts _ q295) (fun _ h9 => h9) rfl dX1_writeTerm_15 ?_
      refine lv_aload_n hx hb dX1_writeTerm_18 rfl (lv_at hl 1 rfl) ?_
      refine va_getN (D := (dC, dI)) (ci := 5) (v := .long tx) (C := RX9) (T := TX9) (N := 3) hx hb hts in_X9 hown hK (hR1.up hS) 0 rfl rfl 1 (by decide) (((va_Nw.warmF hG.1 (va_Nw.of rfl (Z.2.1 _ q589)))).use rfl) (fun _ h9 => h9) rfl dX1_writeTerm_19 ?_
      refine va_mabs_long hx hb (hml.trans hl.1.symm) hown (hts _ q516) (hts _ q517) (hts _ q115) (hts _ q518) (Nat.le_of_ble_eq_true rfl) (Nat.le_of_ble_eq_true rfl) (by first | exact Nat.zero_le _ | omega | (show _ ≤ ((cpN bm (n + (wrQ tn td b).length) - bm) : Nat); omega)) (by first | exact Nat.zero_le _ | omega | (show _ ≤ ((2 * (cpN bm (n + (wrQ tn td b).length) - bm)) : Nat); omega)) dX1_writeTerm_22 ?_
      refine e_l (y := absL tx) (abs_if _) ?_
      refine e_l (y := lN tn) (hx9) ?_
      have hg1_16 : bm ≤ cpN bm (n + (sb_dg tn)) := cp_gem
      have hg2_16 : (n + (sb_dg tn)) ≤ cpN bm (n + (sb_dg tn)) := cp_ge
      have hg3_16 := cp_bd (m := bm) (N := (n + (sb_dg tn)))
      have hg6_16 : cpN bm (n + (sb_dg tn)) ≤ cpN bm (n + (wrQ tn td b).length) := cp_mono (by omega)
      have hF9 := va_free (wc := [((xa 6), .inr (15, [.ref bv, .int (nI 0), .int ml, .int (nI n)])), (bv, .inl (dA 2, bm, .inl f))]) hD hS (fun q h => hA q h) [0, 1] rfl
      refine c_r (wr := []) (va_runV (As := [.long (lN tn)]) (rest := []) ⟨hx, hb, hml, hown, hts⟩ (j1_appendJ Z (va_A [((xa 6), .inr (15, [.ref bv, .int (nI 0), .int ml, .int (nI n)])), (bv, .inl (dA 2, bm, .inl f))] s.heap.size) s.heap.size (fun q h => Or.inr h) Y2 (xa 6) bv bm n ml f L tn hn hO hf  (by omega) (by omega) (by omega) (by omega)) (cwV 1 hts (lw_V q1936 q1937 q1938 q104 q1939) rfl rfl rfl (by decide +kernel) ⟨Nat.le_of_ble_eq_true rfl, Nat.le_of_ble_eq_true rfl⟩) (gP_V (va_recv hK hP (ci := 15) (q0 := 0) rfl rfl) hG hS (fun q _ h => hF9 q h) ⟨rfl, (hP.sub (ws' := [((xa 6), .inr (15, [.ref bv, .int (nI 0), .int ml, .int (nI n)])), (bv, .inl (dA 2, bm, .inl f))]) [0, 1] rfl), (hD.sub (ws' := [((xa 6), .inr (15, [.ref bv, .int (nI 0), .int ml, .int (nI n)])), (bv, .inl (dA 2, bm, .inl f))]) [0, 1] (by decide) rfl).self⟩) rfl rfl hl.1 rfl (lv_room (Nat.le_of_ble_eq_true rfl)) dX1_writeTerm_25 ⟨by first | decide | omega | (show _ ≤ ((cpN bm (n + (wrQ tn td b).length) - bm) : Nat); omega), by first | decide | omega | (show _ ≤ ((2 * (cpN bm (n + (wrQ tn td b).length) - bm)) : Nat); omega)⟩) hP hD hS hA [0, 1] [] rfl rfl (by decide) (by decide) (fun u9 ra9 H locs hq hX hz hk hP hD hS => ?_)
      obtain ⟨ra_17, rfl⟩ : ∃ z, z = ra9 := ⟨_, rfl⟩
      obtain ⟨bv_17, f_17⟩ := u9
      obtain ⟨hO_17, hf_17⟩ := hq
      refine e_v (y := .ref (xa 6)) (congrArg Value.ref hX) ?_
      have hn_17 : (L ++ wrN tn).length = n + (sb_dg tn) := (by rw [List.length_append, hn, wrN_len])
      have hP : va_P (dC, dI) vwCl [((xa 6), .inr (15, [.ref bv_17, .int (nI 0), .int ml, .int (nI (n + (sb_dg tn)))])), (bv_17, .inl (dA 2, (cpN bm (n + (sb_dg tn))), .inl f_17))] H := hP
      have hD : va_D A [((xa 6), .inr (15, [.ref bv_17, .int (nI 0), .int ml, .int (nI (n + (sb_dg tn)))])), (bv_17, .inl (dA 2, (cpN bm (n + (sb_dg tn))), .inl f_17))] := hD
      refine e_w (cpN bm (n + (sb_dg tn)) - bm) (2 * (cpN bm (n + (sb_dg tn)) - bm)) (by omega) (by omega) ?_
      refine lv_pop hx hb dX1_writeTerm_28 rfl ?_
      refine lv_aload_n hx hb dX1_writeTerm_29 rfl (lv_at hl 1 rfl) ?_
      refine va_getN (D := (dC, dI)) (ci := 5) (v := .long ty) (C := RX9) (T := TX9) (N := 3) hx hb hts in_X9 hown hK (hR1.up hS) 0 rfl rfl 2 (by decide) (((va_Nw.warmF hG.1 (va_Nw.of rfl (Z.2.1 _ q591)))).use rfl) (fun _ h9 => h9) rfl dX1_writeTerm_30 ?_
      refine e_l (y := lN td) (hy9) ?_
      refine lv_lconst (v := 1) hx hb dX1_writeTerm_33 rfl ?_
      refine W.lcmp hx hb dX1_writeTerm_34 ?_
      refine lv_if_le (tgt := 55) hx hb dX1_writeTerm_35 (by decide) (fun c_35 => ?_) (fun c_35 => ?_)
      · have c_35 : (lN td) ≤ 1 := (lg_cmp_le _ _).mp c_35
        have hd9 : ¬ 1 < td := wt_le hd8 c_35
        refine lv_aload_n hx hb dX1_writeTerm_55 rfl (lv_at hl 1 rfl) ?_
        refine va_getN (D := (dC, dI)) (ci := 5) (v := .int (nI b)) (C := RX9) (T := TX9) (N := 3) hx hb hts in_X9 hown hK (hR1.up hS) 0 rfl rfl 0 (by decide) (((va_Nw.warmF hG.1 (va_Nw.of rfl (Z.2.1 _ q587)))).use rfl) (fun _ h9 => h9) rfl dX1_writeTerm_56 ?_
        refine lv_if_eq (tgt := 72) hx hb dX1_writeTerm_59 (by decide) (fun c_59 => ?_) (fun c_59 => ?_)
        · have c_59 : b = 0 := (nI_eq (a := b) (b := 0) (by omega) (by omega)).mp c_59
          exact J_1 (L ++ wrN tn) (n + (sb_dg tn)) bv_17 f_17 H locs ls (hd_2 hno hd9 (by omega)) hn_17 hO_17 hf_17 (by omega) (hP.sub [0, 1] rfl) (hD.sub [0, 1] (by decide) rfl) hS (lv_sub hl [0, 1] rfl)
        · have c_59 : ¬ b = 0 := fun h => c_59 ((nI_eq (a := b) (b := 0) (by omega) (by omega)).mpr h)
          have hq4 := wl_2 hno (show 0 < b by omega)
          refine lv_aload_n hx hb dX1_writeTerm_62 rfl (lv_at hl 0 rfl) ?_
          refine va_get (D := (dC, dI)) (ci := 3) (v := .ref (xa 6)) (C := RX1) (T := TX1) (N := 9) hx hb hts in_X1 hown hK (hR0.up hS) 0 rfl rfl 8 (by decide) (hts _ q295) (fun _ h9 => h9) rfl dX1_writeTerm_63 ?_
          refine lv_bipush (v := nI 42) hx hb dX1_writeTerm_66 (by decide) ?_
          have hg1_18 : bm ≤ cpN bm (n + (sb_dg tn) + 1) := cp_gem
          have hg2_18 : (n + (sb_dg tn) + 1) ≤ cpN bm (n + (sb_dg tn) + 1) := cp_ge
          have hg3_18 := cp_bd (m := bm) (N := (n + (sb_dg tn) + 1))
          have hg6_18 : cpN bm (n + (sb_dg tn) + 1) ≤ cpN bm (n + (wrQ tn td b).length) := cp_mono (by omega)
          have hg4_18 : cpN bm (n + (sb_dg tn)) ≤ cpN (cpN bm (n + (sb_dg tn))) (n + (sb_dg tn) + 1) := cp_gem
          have hg5_18 : cpN (cpN bm (n + (sb_dg tn))) (n + (sb_dg tn) + 1) = cpN bm (n + (sb_dg tn) + 1) := cp_two (by omega)
          have hg7_18 := cp_ge (m := bm) (N := (n + (sb_dg tn)))
          have hF9 := va_free (wc := [((xa 6), .inr (15, [.ref bv_17, .int (nI 0), .int ml, .int (nI (n + (sb_dg tn)))])), (bv_17, .inl (dA 2, (cpN bm (n + (sb_dg tn))), .inl f_17))]) hD hS (fun q h => hA q h) [0, 1] rfl
          refine c_r (wr := []) (va_runV (As := [.int (nI 42)]) (rest := []) ⟨hx, hb, hml, hown, hts⟩ (j1_appendC Z (va_A [((xa 6), .inr (15, [.ref bv_17, .int (nI 0), .int ml, .int (nI (n + (sb_dg tn)))])), (bv_17, .inl (dA 2, (cpN bm (n + (sb_dg tn))), .inl f_17))] H.size) H.size (fun q h => Or.inr h) Y2 (xa 6) bv_17 (cpN bm (n + (sb_dg tn))) (n + (sb_dg tn)) ml f_17 (L ++ wrN tn) 42 hn_17 hO_17 hf_17  (by omega) (by omega) (by omega)) (cwV 1 hts (lw_V q1907 q1908 q1909 q104 q1910) rfl rfl rfl (by decide +kernel) ⟨Nat.le_of_ble_eq_true rfl, Nat.le_of_ble_eq_true rfl⟩) (gP_V (va_recv hK hP (ci := 15) (q0 := 0) rfl rfl) hG hS (fun q _ h => hF9 q h) ⟨rfl, (hP.sub (ws' := [((xa 6), .inr (15, [.ref bv_17, .int (nI 0), .int ml, .int (nI (n + (sb_dg tn)))])), (bv_17, .inl (dA 2, (cpN bm (n + (sb_dg tn))), .inl f_17))]) [0, 1] rfl), (hD.sub (ws' := [((xa 6), .inr (15, [.ref bv_17, .int (nI 0), .int ml, .int (nI (n + (sb_dg tn)))])), (bv_17, .inl (dA 2, (cpN bm (n + (sb_dg tn))), .inl f_17))]) [0, 1] (by decide) rfl).self⟩) rfl rfl hl.1 rfl (lv_room (Nat.le_of_ble_eq_true rfl)) dX1_writeTerm_68 ⟨by first | decide | omega | (show _ ≤ ((cpN bm (n + (wrQ tn td b).length) - bm) : Nat); omega), by first | decide | omega | (show _ ≤ ((2 * (cpN bm (n + (wrQ tn td b).length) - bm)) : Nat); omega)⟩) hP hD hS hA [0, 1] [] rfl rfl (by decide) (by decide) (fun u9 ra9 H locs hq hX hz hk hP hD hS => ?_)
          obtain ⟨ra_19, rfl⟩ : ∃ z, z = ra9 := ⟨_, rfl⟩
          obtain ⟨bv_19, f_19⟩ := u9
          obtain ⟨hO_19, hf_19⟩ := hq
          refine e_v (y := .ref (xa 6)) (congrArg Value.ref hX) ?_
          have hn_19 : (L ++ wrN tn ++ [42]).length = n + (sb_dg tn) + 1 := (by rw [List.length_append, hn_17]; first | rfl | simp)
          have hP : va_P (dC, dI) vwCl [((xa 6), .inr (15, [.ref bv_19, .int (nI 0), .int ml, .int (nI (n + (sb_dg tn) + 1))])), (bv_19, .inl (dA 2, (cpN (cpN bm (n + (sb_dg tn))) (n + (sb_dg tn) + 1)), .inl f_19))] H := hP
          have hD : va_D A [((xa 6), .inr (15, [.ref bv_19, .int (nI 0), .int ml, .int (nI (n + (sb_dg tn) + 1))])), (bv_19, .inl (dA 2, (cpN (cpN bm (n + (sb_dg tn))) (n + (sb_dg tn) + 1)), .inl f_19))] := hD
          rw [hg5_18] at hP hD
          have hP : va_P (dC, dI) vwCl [((xa 6), .inr (15, [.ref bv_19, .int (nI 0), .int ml, .int (nI (n + (sb_dg tn) + 1))])), (bv_19, .inl (dA 2, (cpN bm (n + (sb_dg tn) + 1)), .inl f_19))] H := hP
          have hD : va_D A [((xa 6), .inr (15, [.ref bv_19, .int (nI 0), .int ml, .int (nI (n + (sb_dg tn) + 1))])), (bv_19, .inl (dA 2, (cpN bm (n + (sb_dg tn) + 1)), .inl f_19))] := hD
          refine e_w (cpN bm (n + (sb_dg tn) + 1) - bm) (2 * (cpN bm (n + (sb_dg tn) + 1) - bm)) (by omega) (by omega) ?_
          refine lv_pop hx hb dX1_writeTerm_71 rfl ?_
          exact J_1 (L ++ wrN tn ++ [42]) (n + (sb_dg tn) + 1) bv_19 f_19 H locs ls (hd_3 hno hd9 (by omega)) hn_19 hO_19 hf_19 (by omega) (hP.sub [0, 1] rfl) (hD.sub [0, 1] (by decide) rfl) hS (lv_sub hl [0, 1] rfl)
      · have c_35 : ¬ (lN td) ≤ 1 := fun h => c_35 ((lg_cmp_le _ _).mpr h)
        have hd9 : 1 < td := wt_gt hd8 c_35
        have hq3 := wl_3 hno hd9
        refine lv_aload_n hx hb dX1_writeTerm_38 rfl (lv_at hl 0 rfl) ?_
        refine va_get (D := (dC, dI)) (ci := 3) (v := .ref (xa 6)) (C := RX1) (T := TX1) (N := 9) hx hb hts in_X1 hown hK (hR0.up hS) 0 rfl rfl 8 (by decide) (hts _ q295) (fun _ h9 => h9) rfl dX1_writeTerm_39 ?_
        refine lv_bipush (v := nI 47) hx hb dX1_writeTerm_42 (by decide) ?_
        have hg1_20 : bm ≤ cpN bm (n + (sb_dg tn) + 1) := cp_gem
        have hg2_20 : (n + (sb_dg tn) + 1) ≤ cpN bm (n + (sb_dg tn) + 1) := cp_ge
        have hg3_20 := cp_bd (m := bm) (N := (n + (sb_dg tn) + 1))
        have hg6_20 : cpN bm (n + (sb_dg tn) + 1) ≤ cpN bm (n + (wrQ tn td b).length) := cp_mono (by omega)
        have hg4_20 : cpN bm (n + (sb_dg tn)) ≤ cpN (cpN bm (n + (sb_dg tn))) (n + (sb_dg tn) + 1) := cp_gem
        have hg5_20 : cpN (cpN bm (n + (sb_dg tn))) (n + (sb_dg tn) + 1) = cpN bm (n + (sb_dg tn) + 1) := cp_two (by omega)
        have hg7_20 := cp_ge (m := bm) (N := (n + (sb_dg tn)))
        have hF9 := va_free (wc := [((xa 6), .inr (15, [.ref bv_17, .int (nI 0), .int ml, .int (nI (n + (sb_dg tn)))])), (bv_17, .inl (dA 2, (cpN bm (n + (sb_dg tn))), .inl f_17))]) hD hS (fun q h => hA q h) [0, 1] rfl
        refine c_r (wr := []) (va_runV (As := [.int (nI 47)]) (rest := []) ⟨hx, hb, hml, hown, hts⟩ (j1_appendC Z (va_A [((xa 6), .inr (15, [.ref bv_17, .int (nI 0), .int ml, .int (nI (n + (sb_dg tn)))])), (bv_17, .inl (dA 2, (cpN bm (n + (sb_dg tn))), .inl f_17))] H.size) H.size (fun q h => Or.inr h) Y2 (xa 6) bv_17 (cpN bm (n + (sb_dg tn))) (n + (sb_dg tn)) ml f_17 (L ++ wrN tn) 47 hn_17 hO_17 hf_17  (by omega) (by omega) (by omega)) (cwV 1 hts (lw_V q1907 q1908 q1909 q104 q1910) rfl rfl rfl (by decide +kernel) ⟨Nat.le_of_ble_eq_true rfl, Nat.le_of_ble_eq_true rfl⟩) (gP_V (va_recv hK hP (ci := 15) (q0 := 0) rfl rfl) hG hS (fun q _ h => hF9 q h) ⟨rfl, (hP.sub (ws' := [((xa 6), .inr (15, [.ref bv_17, .int (nI 0), .int ml, .int (nI (n + (sb_dg tn)))])), (bv_17, .inl (dA 2, (cpN bm (n + (sb_dg tn))), .inl f_17))]) [0, 1] rfl), (hD.sub (ws' := [((xa 6), .inr (15, [.ref bv_17, .int (nI 0), .int ml, .int (nI (n + (sb_dg tn)))])), (bv_17, .inl (dA 2, (cpN bm (n + (sb_dg tn))), .inl f_17))]) [0, 1] (by decide) rfl).self⟩) rfl rfl hl.1 rfl (lv_room (Nat.le_of_ble_eq_true rfl)) dX1_writeTerm_44 ⟨by first | decide | omega | (show _ ≤ ((cpN bm (n + (wrQ tn td b).length) - bm) : Nat); omega), by first | decide | omega | (show _ ≤ ((2 * (cpN bm (n + (wrQ tn td b).length) - bm)) : Nat); omega)⟩) hP hD hS hA [0, 1] [] rfl rfl (by decide) (by decide) (fun u9 ra9 H locs hq hX hz hk hP hD hS => ?_)
        obtain ⟨ra_21, rfl⟩ : ∃ z, z = ra9 := ⟨_, rfl⟩
        obtain ⟨bv_21, f_21⟩ := u9
        obtain ⟨hO_21, hf_21⟩ := hq
        refine e_v (y := .ref (xa 6)) (congrArg Value.ref hX) ?_
        have hn_21 : (L ++ wrN tn ++ [47]).length = n + (sb_dg tn) + 1 := (by rw [List.length_append, hn_17]; first | rfl | simp)
        have hP : va_P (dC, dI) vwCl [((xa 6), .inr (15, [.ref bv_21, .int (nI 0), .int ml, .int (nI (n + (sb_dg tn) + 1))])), (bv_21, .inl (dA 2, (cpN (cpN bm (n + (sb_dg tn))) (n + (sb_dg tn) + 1)), .inl f_21))] H := hP
        have hD : va_D A [((xa 6), .inr (15, [.ref bv_21, .int (nI 0), .int ml, .int (nI (n + (sb_dg tn) + 1))])), (bv_21, .inl (dA 2, (cpN (cpN bm (n + (sb_dg tn))) (n + (sb_dg tn) + 1)), .inl f_21))] := hD
        rw [hg5_20] at hP hD
        have hP : va_P (dC, dI) vwCl [((xa 6), .inr (15, [.ref bv_21, .int (nI 0), .int ml, .int (nI (n + (sb_dg tn) + 1))])), (bv_21, .inl (dA 2, (cpN bm (n + (sb_dg tn) + 1)), .inl f_21))] H := hP
        have hD : va_D A [((xa 6), .inr (15, [.ref bv_21, .int (nI 0), .int ml, .int (nI (n + (sb_dg tn) + 1))])), (bv_21, .inl (dA 2, (cpN bm (n + (sb_dg tn) + 1)), .inl f_21))] := hD
        refine e_w (cpN bm (n + (sb_dg tn) + 1) - bm) (2 * (cpN bm (n + (sb_dg tn) + 1) - bm)) (by omega) (by omega) ?_
        refine lv_aload_n hx hb dX1_writeTerm_47 rfl (lv_at hl 1 rfl) ?_
        refine va_getN (D := (dC, dI)) (ci := 5) (v := .long ty) (C := RX9) (T := TX9) (N := 3) hx hb hts in_X9 hown hK (hR1.up hS) 0 rfl rfl 2 (by decide) (((va_Nw.warmF hG.1 (va_Nw.of rfl (Z.2.1 _ q591)))).use rfl) (fun _ h9 => h9) rfl dX1_writeTerm_48 ?_
        refine e_l (y := lN td) (hy9) ?_
        have hg1_22 : bm ≤ cpN bm (n + (sb_dg tn) + 1 + (sb_dg td)) := cp_gem
        have hg2_22 : (n + (sb_dg tn) + 1 + (sb_dg td)) ≤ cpN bm (n + (sb_dg tn) + 1 + (sb_dg td)) := cp_ge
        have hg3_22 := cp_bd (m := bm) (N := (n + (sb_dg tn) + 1 + (sb_dg td)))
        have hg6_22 : cpN bm (n + (sb_dg tn) + 1 + (sb_dg td)) ≤ cpN bm (n + (wrQ tn td b).length) := cp_mono (by omega)
        have hg4_22 : cpN bm (n + (sb_dg tn) + 1) ≤ cpN (cpN bm (n + (sb_dg tn) + 1)) (n + (sb_dg tn) + 1 + (sb_dg td)) := cp_gem
        have hg5_22 : cpN (cpN bm (n + (sb_dg tn) + 1)) (n + (sb_dg tn) + 1 + (sb_dg td)) = cpN bm (n + (sb_dg tn) + 1 + (sb_dg td)) := cp_two (by omega)
        have hg7_22 := cp_ge (m := bm) (N := (n + (sb_dg tn) + 1))
        have hF9 := va_free (wc := [((xa 6), .inr (15, [.ref bv_21, .int (nI 0), .int ml, .int (nI (n + (sb_dg tn) + 1))])), (bv_21, .inl (dA 2, (cpN bm (n + (sb_dg tn) + 1)), .inl f_21))]) hD hS (fun q h => hA q h) [0, 1] rfl
        refine c_r (wr := []) (va_runV (As := [.long (lN td)]) (rest := []) ⟨hx, hb, hml, hown, hts⟩ (j1_appendJ Z (va_A [((xa 6), .inr (15, [.ref bv_21, .int (nI 0), .int ml, .int (nI (n + (sb_dg tn) + 1))])), (bv_21, .inl (dA 2, (cpN bm (n + (sb_dg tn) + 1)), .inl f_21))] H.size) H.size (fun q h => Or.inr h) Y2 (xa 6) bv_21 (cpN bm (n + (sb_dg tn) + 1)) (n + (sb_dg tn) + 1) ml f_21 (L ++ wrN tn ++ [47]) td hn_21 hO_21 hf_21  (by omega) (by omega) (by omega) (by omega)) (cwV 1 hts (lw_V q1936 q1937 q1938 q104 q1939) rfl rfl rfl (by decide +kernel) ⟨Nat.le_of_ble_eq_true rfl, Nat.le_of_ble_eq_true rfl⟩) (gP_V (va_recv hK hP (ci := 15) (q0 := 0) rfl rfl) hG hS (fun q _ h => hF9 q h) ⟨rfl, (hP.sub (ws' := [((xa 6), .inr (15, [.ref bv_21, .int (nI 0), .int ml, .int (nI (n + (sb_dg tn) + 1))])), (bv_21, .inl (dA 2, (cpN bm (n + (sb_dg tn) + 1)), .inl f_21))]) [0, 1] rfl), (hD.sub (ws' := [((xa 6), .inr (15, [.ref bv_21, .int (nI 0), .int ml, .int (nI (n + (sb_dg tn) + 1))])), (bv_21, .inl (dA 2, (cpN bm (n + (sb_dg tn) + 1)), .inl f_21))]) [0, 1] (by decide) rfl).self⟩) rfl rfl hl.1 rfl (lv_room (Nat.le_of_ble_eq_true rfl)) dX1_writeTerm_51 ⟨by first | decide | omega | (show _ ≤ ((cpN bm (n + (wrQ tn td b).length) - bm) : Nat); omega), by first | decide | omega | (show _ ≤ ((2 * (cpN bm (n + (wrQ tn td b).length) - bm)) : Nat); omega)⟩) hP hD hS hA [0, 1] [] rfl rfl (by decide) (by decide) (fun u9 ra9 H locs hq hX hz hk hP hD hS => ?_)
        obtain ⟨ra_23, rfl⟩ : ∃ z, z = ra9 := ⟨_, rfl⟩
        obtain ⟨bv_23, f_23⟩ := u9
        obtain ⟨hO_23, hf_23⟩ := hq
        refine e_v (y := .ref (xa 6)) (congrArg Value.ref hX) ?_
        have hn_23 : (L ++ wrN tn ++ [47] ++ wrN td).length = n + (sb_dg tn) + 1 + (sb_dg td) := (by rw [List.length_append, hn_21, wrN_len])
        have hP : va_P (dC, dI) vwCl [((xa 6), .inr (15, [.ref bv_23, .int (nI 0), .int ml, .int (nI (n + (sb_dg tn) + 1 + (sb_dg td)))])), (bv_23, .inl (dA 2, (cpN (cpN bm (n + (sb_dg tn) + 1)) (n + (sb_dg tn) + 1 + (sb_dg td))), .inl f_23))] H := hP
        have hD : va_D A [((xa 6), .inr (15, [.ref bv_23, .int (nI 0), .int ml, .int (nI (n + (sb_dg tn) + 1 + (sb_dg td)))])), (bv_23, .inl (dA 2, (cpN (cpN bm (n + (sb_dg tn) + 1)) (n + (sb_dg tn) + 1 + (sb_dg td))), .inl f_23))] := hD
        rw [hg5_22] at hP hD
        have hP : va_P (dC, dI) vwCl [((xa 6), .inr (15, [.ref bv_23, .int (nI 0), .int ml, .int (nI (n + (sb_dg tn) + 1 + (sb_dg td)))])), (bv_23, .inl (dA 2, (cpN bm (n + (sb_dg tn) + 1 + (sb_dg td))), .inl f_23))] H := hP
        have hD : va_D A [((xa 6), .inr (15, [.ref bv_23, .int (nI 0), .int ml, .int (nI (n + (sb_dg tn) + 1 + (sb_dg td)))])), (bv_23, .inl (dA 2, (cpN bm (n + (sb_dg tn) + 1 + (sb_dg td))), .inl f_23))] := hD
        refine e_w (cpN bm (n + (sb_dg tn) + 1 + (sb_dg td)) - bm) (2 * (cpN bm (n + (sb_dg tn) + 1 + (sb_dg td)) - bm)) (by omega) (by omega) ?_
        refine lv_pop hx hb dX1_writeTerm_54 rfl ?_
        refine lv_aload_n hx hb dX1_writeTerm_55 rfl (lv_at hl 1 rfl) ?_
        refine va_getN (D := (dC, dI)) (ci := 5) (v := .int (nI b)) (C := RX9) (T := TX9) (N := 3) hx hb hts in_X9 hown hK (hR1.up hS) 0 rfl rfl 0 (by decide) (((va_Nw.warmF hG.1 (va_Nw.of rfl (Z.2.1 _ q587)))).use rfl) (fun _ h9 => h9) rfl dX1_writeTerm_56 ?_
        refine lv_if_eq (tgt := 72) hx hb dX1_writeTerm_59 (by decide) (fun c_59 => ?_) (fun c_59 => ?_)
        · have c_59 : b = 0 := (nI_eq (a := b) (b := 0) (by omega) (by omega)).mp c_59
          exact J_1 (L ++ wrN tn ++ [47] ++ wrN td) (n + (sb_dg tn) + 1 + (sb_dg td)) bv_23 f_23 H locs ls (hd_4 hno hd9 (by omega)) hn_23 hO_23 hf_23 (by omega) (hP.sub [0, 1] rfl) (hD.sub [0, 1] (by decide) rfl) hS (lv_sub hl [0, 1] rfl)
        · have c_59 : ¬ b = 0 := fun h => c_59 ((nI_eq (a := b) (b := 0) (by omega) (by omega)).mpr h)
          have hq4 := wl_2 hno (show 0 < b by omega)
          have hq5 := wl_4 hno hd9 (show 0 < b by omega)
          refine lv_aload_n hx hb dX1_writeTerm_62 rfl (lv_at hl 0 rfl) ?_
          refine va_get (D := (dC, dI)) (ci := 3) (v := .ref (xa 6)) (C := RX1) (T := TX1) (N := 9) hx hb hts in_X1 hown hK (hR0.up hS) 0 rfl rfl 8 (by decide) (hts _ q295) (fun _ h9 => h9) rfl dX1_writeTerm_63 ?_
          refine lv_bipush (v := nI 42) hx hb dX1_writeTerm_66 (by decide) ?_
          have hg1_24 : bm ≤ cpN bm (n + (sb_dg tn) + 1 + (sb_dg td) + 1) := cp_gem
          have hg2_24 : (n + (sb_dg tn) + 1 + (sb_dg td) + 1) ≤ cpN bm (n + (sb_dg tn) + 1 + (sb_dg td) + 1) := cp_ge
          have hg3_24 := cp_bd (m := bm) (N := (n + (sb_dg tn) + 1 + (sb_dg td) + 1))
          have hg6_24 : cpN bm (n + (sb_dg tn) + 1 + (sb_dg td) + 1) ≤ cpN bm (n + (wrQ tn td b).length) := cp_mono (by omega)
          have hg4_24 : cpN bm (n + (sb_dg tn) + 1 + (sb_dg td)) ≤ cpN (cpN bm (n + (sb_dg tn) + 1 + (sb_dg td))) (n + (sb_dg tn) + 1 + (sb_dg td) + 1) := cp_gem
          have hg5_24 : cpN (cpN bm (n + (sb_dg tn) + 1 + (sb_dg td))) (n + (sb_dg tn) + 1 + (sb_dg td) + 1) = cpN bm (n + (sb_dg tn) + 1 + (sb_dg td) + 1) := cp_two (by omega)
          have hg7_24 := cp_ge (m := bm) (N := (n + (sb_dg tn) + 1 + (sb_dg td)))
          have hF9 := va_free (wc := [((xa 6), .inr (15, [.ref bv_23, .int (nI 0), .int ml, .int (nI (n + (sb_dg tn) + 1 + (sb_dg td)))])), (bv_23, .inl (dA 2, (cpN bm (n + (sb_dg tn) + 1 + (sb_dg td))), .inl f_23))]) hD hS (fun q h => hA q h) [0, 1] rfl
          refine c_r (wr := []) (va_runV (As := [.int (nI 42)]) (rest := []) ⟨hx, hb, hml, hown, hts⟩ (j1_appendC Z (va_A [((xa 6), .inr (15, [.ref bv_23, .int (nI 0), .int ml, .int (nI (n + (sb_dg tn) + 1 + (sb_dg td)))])), (bv_23, .inl (dA 2, (cpN bm (n + (sb_dg tn) + 1 + (sb_dg td))), .inl f_23))] H.size) H.size (fun q h => Or.inr h) Y2 (xa 6) bv_23 (cpN bm (n + (sb_dg tn) + 1 + (sb_dg td))) (n + (sb_dg tn) + 1 + (sb_dg td)) ml f_23 (L ++ wrN tn ++ [47] ++ wrN td) 42 hn_23 hO_23 hf_23  (by omega) (by omega) (by omega)) (cwV 1 hts (lw_V q1907 q1908 q1909 q104 q1910) rfl rfl rfl (by decide +kernel) ⟨Nat.le_of_ble_eq_true rfl, Nat.le_of_ble_eq_true rfl⟩) (gP_V (va_recv hK hP (ci := 15) (q0 := 0) rfl rfl) hG hS (fun q _ h => hF9 q h) ⟨rfl, (hP.sub (ws' := [((xa 6), .inr (15, [.ref bv_23, .int (nI 0), .int ml, .int (nI (n + (sb_dg tn) + 1 + (sb_dg td)))])), (bv_23, .inl (dA 2, (cpN bm (n + (sb_dg tn) + 1 + (sb_dg td))), .inl f_23))]) [0, 1] rfl), (hD.sub (ws' := [((xa 6), .inr (15, [.ref bv_23, .int (nI 0), .int ml, .int (nI (n + (sb_dg tn) + 1 + (sb_dg td)))])), (bv_23, .inl (dA 2, (cpN bm (n + (sb_dg tn) + 1 + (sb_dg td))), .inl f_23))]) [0, 1] (by decide) rfl).self⟩) rfl rfl hl.1 rfl (lv_room (Nat.le_of_ble_eq_true rfl)) dX1_writeTerm_68 ⟨by first | decide | omega | (show _ ≤ ((cpN bm (n + (wrQ tn td b).length) - bm) : Nat); omega), by first | decide | omega | (show _ ≤ ((2 * (cpN bm (n + (wrQ tn td b).length) - bm)) : Nat); omega)⟩) hP hD hS hA [0, 1] [] rfl rfl (by decide) (by decide) (fun u9 ra9 H locs hq hX hz hk hP hD hS => ?_)
          obtain ⟨ra_25, rfl⟩ : ∃ z, z = ra9 := ⟨_, rfl⟩
          obtain ⟨bv_25, f_25⟩ := u9
          obtain ⟨hO_25, hf_25⟩ := hq
          refine e_v (y := .ref (xa 6)) (congrArg Value.ref hX) ?_
          have hn_25 : (L ++ wrN tn ++ [47] ++ wrN td ++ [42]).length = n + (sb_dg tn) + 1 + (sb_dg td) + 1 := (by rw [List.length_append, hn_23]; first | rfl | simp)
          have hP : va_P (dC, dI) vwCl [((xa 6), .inr (15, [.ref bv_25, .int (nI 0), .int ml, .int (nI (n + (sb_dg tn) + 1 + (sb_dg td) + 1))])), (bv_25, .inl (dA 2, (cpN (cpN bm (n + (sb_dg tn) + 1 + (sb_dg td))) (n + (sb_dg tn) + 1 + (sb_dg td) + 1)), .inl f_25))] H := hP
          have hD : va_D A [((xa 6), .inr (15, [.ref bv_25, .int (nI 0), .int ml, .int (nI (n + (sb_dg tn) + 1 + (sb_dg td) + 1))])), (bv_25, .inl (dA 2, (cpN (cpN bm (n + (sb_dg tn) + 1 + (sb_dg td))) (n + (sb_dg tn) + 1 + (sb_dg td) + 1)), .inl f_25))] := hD
          rw [hg5_24] at hP hD
          have hP : va_P (dC, dI) vwCl [((xa 6), .inr (15, [.ref bv_25, .int (nI 0), .int ml, .int (nI (n + (sb_dg tn) + 1 + (sb_dg td) + 1))])), (bv_25, .inl (dA 2, (cpN bm (n + (sb_dg tn) + 1 + (sb_dg td) + 1)), .inl f_25))] H := hP
          have hD : va_D A [((xa 6), .inr (15, [.ref bv_25, .int (nI 0), .int ml, .int (nI (n + (sb_dg tn) + 1 + (sb_dg td) + 1))])), (bv_25, .inl (dA 2, (cpN bm (n + (sb_dg tn) + 1 + (sb_dg td) + 1)), .inl f_25))] := hD
          refine e_w (cpN bm (n + (sb_dg tn) + 1 + (sb_dg td) + 1) - bm) (2 * (cpN bm (n + (sb_dg tn) + 1 + (sb_dg td) + 1) - bm)) (by omega) (by omega) ?_
          refine lv_pop hx hb dX1_writeTerm_71 rfl ?_
          exact J_1 (L ++ wrN tn ++ [47] ++ wrN td ++ [42]) (n + (sb_dg tn) + 1 + (sb_dg td) + 1) bv_25 f_25 H locs ls (hd_5 hno hd9 (by omega)) hn_25 hO_25 hf_25 (by omega) (hP.sub [0, 1] rfl) (hD.sub [0, 1] (by decide) rfl) hS (lv_sub hl [0, 1] rfl)
