/-! THE KERNEL: one start, one list of classes, one form of contract, and rows of my own over the kit's -/
abbrev vwCl : List vw_C := [(RX6, TX6, 2), (RX5, TX5, 6), (RX7, TX7, 27), (RX1, TX1, 9), (RX4, TX4, 2), (RX9, TX9, 3), (RX10, TX10, 2), (RX8, TX8, 6), (RX14, TX14, 8), (RX11, TX11, 5), (RX13, TX13, 4), (RX15, TX15, 1), (RX16, TX16, 2), (RJ20, TJ20, 3), (RJ25, TJ25, 4), (RJ1, TJ1, 4), (RJ24, TJ24, 1), (RJ10, TJ10, 0)]
abbrev gT (dA : Nat → ClassId) : List (ClassId × FieldType) := [(dA 0, .int), (dA 1, .long), (dA 2, .byte), (dA 3, .boolean), (dA 4, .object "BladeAlgebra$Multi"), (dA 5, .object "BladeAlgebra$World"), (dA 6, .object "BladeAlgebra$Two"), (dA 7, .object "BladeAlgebra$One"), (dA 8, .object "java/lang/Object"), (dA 9, .array .int)]
/-- the start: what the law's entry knows -/
def Z0 (l : Launch) (dC : Nat → ClassId) (dI : Nat → Nat → Nat) (dA : Nat → ClassId) (s0 : State) (b0 : Addr) : Prop :=
  va_K (dC, dI) vwCl (gT dA) s0 ∧ (∀ w ∈ lw_tbl, w.before #[Value.ref b0] s0 = true) ∧ (Jvm.Cond.and given_1 narrow_1).before #[Value.ref b0] s0 = true ∧ l.stackTraces = false
/-- a state that comes from the start: its tables, and the start's cells as they were; A: what may be written -/
def Gd (s0 : State) (A : Nat → Prop) (U : State) (H : Heap) : Prop :=
  s0.WarmedH U.vm ∧ s0.heap.size ≤ H.size ∧ ∀ q : Nat, q < s0.heap.size → H[q]? = s0.heap[q]? ∧ ¬ A q
theorem Gd.K {l : Launch} {dC : Nat → ClassId} {dI : Nat → Nat → Nat} {dA : Nat → ClassId} {s0 U : State} {b0 : Addr} {A : Nat → Prop} {H : Heap} (h : Gd s0 A U H) (Z : Z0 l dC dI dA s0 b0) : va_K (dC, dI) vwCl (gT dA) U := va_K.moved h.1.alike Z.1
theorem gd_at {s0 s U : State} {A A1 : Nat → Prop} {H : Heap} {locs : List Loc} (hG : Gd s0 A s s.heap) (hS : va_S A s.heap H locs) (hsub : ∀ q, q < H.size → A1 q → A q) (hU : U.heap = H) (hW : s.WarmedH U.vm) : Gd s0 A1 U U.heap := by
  obtain ⟨g1, g2, g3⟩ := hG
  refine ⟨State.WarmedH.trans g1 hW, by rw [hU]; exact Nat.le_trans g2 hS.1, fun q hq => ?_⟩
  obtain ⟨e, n⟩ := g3 q hq
  have hq1 : q < s.heap.size := Nat.lt_of_lt_of_le hq g2
  exact ⟨by rw [hU, hS.2.1 q hq1 n]; exact e, fun a => n (hsub q (Nat.lt_of_lt_of_le hq1 hS.1) a)⟩
/-- a contract's start -/
def gP (As : List Value) (s0 : State) (A : Nat → Prop) (P : Heap → Prop) : Array Value → State → Prop := va_Pc As (fun U => Gd s0 A U U.heap ∧ P U.heap)
theorem gP_blind {As : List Value} {s0 : State} {A : Nat → Prop} {P : Heap → Prop} : FrameBlind (gP As s0 A P) := fun a U g mk q => ⟨q.1, q.2⟩
theorem gP_S {As : List Value} {s0 s : State} {A A1 : Nat → Prop} {P : Heap → Prop} {H : Heap} {locs : List Loc} (hG : Gd s0 A s s.heap) (hS : va_S A s.heap H locs) (hsub : ∀ q, q < H.size → A1 q → A q) (hP : P H) : PreS s H (gP As s0 A1 P) As :=
  ⟨gP_blind, fun U hU hW => ⟨rfl, gd_at hG hS hsub hU hW, by rw [hU]; exact hP⟩⟩
theorem gP_V {As : List Value} {b : Nat} {C : String} {s0 s : State} {A A1 : Nat → Prop} {P : Heap → Prop} {H : Heap} {locs : List Loc} (hr : ∃ cellB : Cell, H[b]? = some cellB ∧ cellB.vm.isStatics = false ∧ s.vm.findClass C = some cellB.cls) (hG : Gd s0 A s s.heap) (hS : va_S A s.heap H locs) (hsub : ∀ q, q < H.size → A1 q → A q) (hP : P H) : PreV s H C b (gP (.ref b :: As) s0 A1 P) As :=
  ⟨gP_blind, hr, fun U hU hW => ⟨rfl, gd_at hG hS hsub hU hW, by rw [hU]; exact hP⟩⟩
/-- cells that are read alone: they lie outside of what may be written -/
def RO (A : Nat → Prop) (D : va_G) (ro : va_W) (H : Heap) : Prop := va_P D vwCl ro H ∧ ∀ (k : Nat) (q : Nat × va_E), ro[k]? = some q → ¬ A q.1
theorem RO.up {A : Nat → Prop} {D : va_G} {ro : va_W} {H0 H : Heap} {locs : List Loc} (h : RO A D ro H0) (hS : va_S A H0 H locs) : va_P D vwCl ro H := h.1.kept (fun k q hk => hS.2.1 q.1 (h.1 k q hk).lt (h.2 k q hk))
theorem RO.to {A A1 : Nat → Prop} {D : va_G} {ro : va_W} {H0 H : Heap} {locs : List Loc} (h : RO A D ro H0) (hS : va_S A H0 H locs) (hsub : ∀ q, q < H.size → A1 q → A q) : RO A1 D ro H :=
  ⟨h.up hS, fun k q hk a => h.2 k q hk (hsub q.1 (h.up hS k q hk).lt a)⟩
theorem RO.nil {A : Nat → Prop} {D : va_G} {H : Heap} : RO A D [] H := ⟨fun k q h => by simp at h, fun k q h => by simp at h⟩
theorem RO.sub {A : Nat → Prop} {D : va_G} {ro ro' : va_W} {H : Heap} (h : RO A D ro H) (is : List Nat) (hs : is.filterMap (fun i => ro[i]?) = ro') : RO A D ro' H := by
  refine ⟨h.1.sub is hs, fun k q hk => ?_⟩
  subst hs
  obtain ⟨i, -, hi⟩ := List.mem_filterMap.mp (List.mem_of_getElem? hk)
  exact h.2 i q hi
theorem RO.app {A : Nat → Prop} {D : va_G} {r1 r2 : va_W} {H : Heap} (h1 : RO A D r1 H) (h2 : RO A D r2 H) : RO A D (r1 ++ r2) H := by
  refine ⟨h1.1.app h2.1, fun k q hk => ?_⟩
  rcases List.mem_append.mp (List.mem_of_getElem? hk) with h | h
  · obtain ⟨i, hi⟩ := List.getElem?_of_mem h
    exact h1.2 i q hi
  · obtain ⟨i, hi⟩ := List.getElem?_of_mem h
    exact h2.2 i q hi
/-- the cells beside those that a callee gets -/
theorem RO.beside {A : Nat → Prop} {D : va_G} {ws wc wr : va_W} {H : Heap} (hP : va_P D vwCl ws H) (hD : va_D A ws) (isC isR : List Nat) (hC : isC.map (fun i => ws[i]?) = wc.map some) (hR : isR.map (fun i => ws[i]?) = wr.map some) (hdis : ∀ i ∈ isR, i ∉ isC) : RO (va_A wc H.size) D wr H := by
  have key : ∀ (k : Nat) (q : Nat × va_E), wr[k]? = some q → ∃ i, i ∈ isR ∧ ws[i]? = some q := by
    intro k q hk
    have hm : some q ∈ wr.map some := List.mem_map.mpr ⟨q, List.mem_of_getElem? hk, rfl⟩
    rw [← hR] at hm
    obtain ⟨i, hi, e⟩ := List.mem_map.mp hm
    exact ⟨i, hi, e⟩
  have keyC : ∀ (k : Nat) (q : Nat × va_E), wc[k]? = some q → ∃ i, i ∈ isC ∧ ws[i]? = some q := by
    intro k q hk
    have hm : some q ∈ wc.map some := List.mem_map.mpr ⟨q, List.mem_of_getElem? hk, rfl⟩
    rw [← hC] at hm
    obtain ⟨i, hi, e⟩ := List.mem_map.mp hm
    exact ⟨i, hi, e⟩
  refine ⟨fun k q hk => ?_, fun k q hk a => ?_⟩
  · obtain ⟨i, -, h⟩ := key k q hk
    exact hP i q h
  · obtain ⟨i, hi, h⟩ := key k q hk
    rcases a with ⟨k2, e2, h2⟩ | a
    · obtain ⟨j, hj, h3⟩ := keyC k2 _ h2
      have := hD.1 i j _ _ h h3 rfl
      subst this
      exact hdis i hi hj
    · exact absurd (hP i q h).lt (Nat.not_lt.mpr a)
/-- what a contract leaves behind: the cells w1, and what X says of the heap -/
def B1 {S : Type} (D : va_G) (A : Nat → Prop) (w1 : S → va_W) (X : S → Heap → Prop) : S → State → Prop := fun u t => va_P D vwCl (w1 u) t.heap ∧ va_D A (w1 u) ∧ X u t.heap
def B1r {S : Type} (D : va_G) (A : Nat → Prop) (w1 : S → Nat → va_W) (X : S → Nat → Heap → Prop) : S → Nat → State → Prop := fun u a t => va_P D vwCl (w1 u a) t.heap ∧ va_D A (w1 u a) ∧ X u a t.heap
section KR
variable {p : Program} {l : Launch} {e : Env} {R : Room} {s : State} {m : MethodId} {args : Array Value} {below : List Frame} {meth : Method} {c : Code} {H : Heap} {locs : List Loc} {cells slots : Nat} {Q : State → Prop}
variable {cc : ByteArray} {pc : Nat} {ls : Array Slot} {rest st0 : List Value} {D : va_G} {cl : List vw_C} {A A1 : Nat → Prop} {a : Nat} {tys : List (ClassId × FieldType)} {ws wc wr : va_W} {H0 : Heap} {mc ms : Nat} {av : Array Value}
theorem e_i {x y : Int32} (h : x = y) (k : W p l e R s m args below meth c H locs cells slots Q (F0 m pc ls (.int y :: rest))) : W p l e R s m args below meth c H locs cells slots Q (F0 m pc ls (.int x :: rest)) := by rw [h]; exact k
theorem e_l {x y : Int64} (h : x = y) (k : W p l e R s m args below meth c H locs cells slots Q (F0 m pc ls (.long y :: rest))) : W p l e R s m args below meth c H locs cells slots Q (F0 m pc ls (.long x :: rest)) := by rw [h]; exact k
theorem e_v {x y : Value} (h : x = y) (k : W p l e R s m args below meth c H locs cells slots Q (F0 m pc ls (y :: rest))) : W p l e R s m args below meth c H locs cells slots Q (F0 m pc ls (x :: rest)) := by rw [h]; exact k
theorem e_s {st st' : List Value} (h : st = st') (k : W p l e R s m args below meth c H locs cells slots Q (F0 m pc ls st')) : W p l e R s m args below meth c H locs cells slots Q (F0 m pc ls st) := by rw [h]; exact k
theorem e_w (cc' ss' : Nat) (h1 : cells = cc') (h2 : slots = ss') (k : W p l e R s m args below meth c H locs cc' ss' Q (F0 m pc ls st0)) : W p l e R s m args below meth c H locs cells slots Q (F0 m pc ls st0) := by rw [h1, h2]; exact k
/-- a call that leaves the heap as it was -/
theorem s_i {v : Int32} (hr : va_Run p l e R s m args below meth c H locs cells slots 0 0 (F0 m pc ls st0) rest (vp_Si (fun r => r = v) av) (fun _ => False)) (kk : W p l e R s m args below meth c H locs cells slots Q (F0 m (pc + 3) ls (.int v :: rest))) : W p l e R s m args below meth c H locs cells slots Q (F0 m pc ls st0) := vp_callSi hr.run (fun r h => by rw [h]; exact kk)
theorem s_ip {post : Int32 → Prop} (hr : va_Run p l e R s m args below meth c H locs cells slots 0 0 (F0 m pc ls st0) rest (vp_Si post av) (fun _ => False)) (kk : ∀ r, post r → W p l e R s m args below meth c H locs cells slots Q (F0 m (pc + 3) ls (.int r :: rest))) : W p l e R s m args below meth c H locs cells slots Q (F0 m pc ls st0) := vp_callSi hr.run kk
theorem s_l {v : Int64} (hr : va_Run p l e R s m args below meth c H locs cells slots 0 0 (F0 m pc ls st0) rest (vp_Sl (fun r => r = v) av) (fun _ => False)) (kk : W p l e R s m args below meth c H locs cells slots Q (F0 m (pc + 3) ls (.long v :: rest))) : W p l e R s m args below meth c H locs cells slots Q (F0 m pc ls st0) := vp_callSl hr.run (fun r h => by rw [h]; exact kk)
theorem s_v (hr : va_Run p l e R s m args below meth c H locs cells slots 0 0 (F0 m pc ls st0) rest (va_Sv (fun _ => True) av) (fun _ => False)) (kk : W p l e R s m args below meth c H locs cells slots Q (F0 m (pc + 3) ls rest)) : W p l e R s m args below meth c H locs cells slots Q (F0 m pc ls st0) := va_csv hr.run (fun _ => kk)
/-- a call that writes and makes: what the callee got (isC) is replaced by what it leaves, at the end of the list -/
theorem c_i {S : Type} {post : Int32 → S → Prop} {w1 : S → va_W} {X : S → Heap → Prop} (hr : va_Run p l e R s m args below meth c H locs cells slots mc ms (F0 m pc ls st0) rest (va_Qi post (B1 D (va_A wc H.size) w1 X) (va_A wc H.size) av) (va_A wc H.size)) (hP : va_P D vwCl ws H) (hD : va_D A ws) (hS : va_S A H0 H locs) (hA : ∀ q, H0.size ≤ q → A q) (isC isR : List Nat) (hC : isC.map (fun i => ws[i]?) = wc.map some) (hR : isR.map (fun i => ws[i]?) = wr.map some) (hn : va_nd isR = true) (hdis : ∀ i ∈ isR, i ∉ isC)
    (kk : ∀ (r : Int32) (u : S) (H1 : Heap) (locs1 : List Loc), post r u → X u H1 → H.size ≤ H1.size → (∀ q : Nat, q < H.size → ¬ va_A wc H.size q → H1[q]? = H[q]?) → va_P D vwCl (wr ++ w1 u) H1 → va_D A (wr ++ w1 u) → va_S A H0 H1 locs1 → W p l e R s m args below meth c H1 locs1 (cells + mc) (slots + ms) Q (F0 m (pc + 3) ls (.int r :: rest))) : W p l e R s m args below meth c H locs cells slots Q (F0 m pc ls st0) := by
  have hF := va_free (wc := wc) hD hS hA isC hC
  refine va_calli hr hS (fun q _ h => hF q h) hF (fun r u t H1 locs1 ht hvm hp hB hz hk hS1 => ?_)
  obtain ⟨hP1, hD1, hX1⟩ := hB
  rw [ht] at hP1 hX1
  obtain ⟨hP2, hD2⟩ := va_join hP hD isC isR hC hR hn hdis hk hF hP1 hD1
  exact kk r u H1 locs1 hp hX1 hz hk hP2 hD2 hS1
theorem c_l {S : Type} {post : Int64 → S → Prop} {w1 : S → va_W} {X : S → Heap → Prop} (hr : va_Run p l e R s m args below meth c H locs cells slots mc ms (F0 m pc ls st0) rest (va_Ql post (B1 D (va_A wc H.size) w1 X) (va_A wc H.size) av) (va_A wc H.size)) (hP : va_P D vwCl ws H) (hD : va_D A ws) (hS : va_S A H0 H locs) (hA : ∀ q, H0.size ≤ q → A q) (isC isR : List Nat) (hC : isC.map (fun i => ws[i]?) = wc.map some) (hR : isR.map (fun i => ws[i]?) = wr.map some) (hn : va_nd isR = true) (hdis : ∀ i ∈ isR, i ∉ isC)
    (kk : ∀ (r : Int64) (u : S) (H1 : Heap) (locs1 : List Loc), post r u → X u H1 → H.size ≤ H1.size → (∀ q : Nat, q < H.size → ¬ va_A wc H.size q → H1[q]? = H[q]?) → va_P D vwCl (wr ++ w1 u) H1 → va_D A (wr ++ w1 u) → va_S A H0 H1 locs1 → W p l e R s m args below meth c H1 locs1 (cells + mc) (slots + ms) Q (F0 m (pc + 3) ls (.long r :: rest))) : W p l e R s m args below meth c H locs cells slots Q (F0 m pc ls st0) := by
  have hF := va_free (wc := wc) hD hS hA isC hC
  refine va_calll hr hS (fun q _ h => hF q h) hF (fun r u t H1 locs1 ht hvm hp hB hz hk hS1 => ?_)
  obtain ⟨hP1, hD1, hX1⟩ := hB
  rw [ht] at hP1 hX1
  obtain ⟨hP2, hD2⟩ := va_join hP hD isC isR hC hR hn hdis hk hF hP1 hD1
  exact kk r u H1 locs1 hp hX1 hz hk hP2 hD2 hS1
theorem c_v {S : Type} {post : S → Prop} {w1 : S → va_W} {X : S → Heap → Prop} (hr : va_Run p l e R s m args below meth c H locs cells slots mc ms (F0 m pc ls st0) rest (va_Qv post (B1 D (va_A wc H.size) w1 X) (va_A wc H.size) av) (va_A wc H.size)) (hP : va_P D vwCl ws H) (hD : va_D A ws) (hS : va_S A H0 H locs) (hA : ∀ q, H0.size ≤ q → A q) (isC isR : List Nat) (hC : isC.map (fun i => ws[i]?) = wc.map some) (hR : isR.map (fun i => ws[i]?) = wr.map some) (hn : va_nd isR = true) (hdis : ∀ i ∈ isR, i ∉ isC)
    (kk : ∀ (u : S) (H1 : Heap) (locs1 : List Loc), post u → X u H1 → H.size ≤ H1.size → (∀ q : Nat, q < H.size → ¬ va_A wc H.size q → H1[q]? = H[q]?) → va_P D vwCl (wr ++ w1 u) H1 → va_D A (wr ++ w1 u) → va_S A H0 H1 locs1 → W p l e R s m args below meth c H1 locs1 (cells + mc) (slots + ms) Q (F0 m (pc + 3) ls rest)) : W p l e R s m args below meth c H locs cells slots Q (F0 m pc ls st0) := by
  have hF := va_free (wc := wc) hD hS hA isC hC
  refine va_callv hr hS (fun q _ h => hF q h) hF (fun u t H1 locs1 ht hvm hp hB hz hk hS1 => ?_)
  obtain ⟨hP1, hD1, hX1⟩ := hB
  rw [ht] at hP1 hX1
  obtain ⟨hP2, hD2⟩ := va_join hP hD isC isR hC hR hn hdis hk hF hP1 hD1
  exact kk u H1 locs1 hp hX1 hz hk hP2 hD2 hS1
theorem c_r {S : Type} {post : S → Prop} {w1 : S → Nat → va_W} {X : S → Nat → Heap → Prop} (hr : va_Run p l e R s m args below meth c H locs cells slots mc ms (F0 m pc ls st0) rest (va_Qr post (B1r D (va_A wc H.size) w1 X) (va_A wc H.size) av) (va_A wc H.size)) (hP : va_P D vwCl ws H) (hD : va_D A ws) (hS : va_S A H0 H locs) (hA : ∀ q, H0.size ≤ q → A q) (isC isR : List Nat) (hC : isC.map (fun i => ws[i]?) = wc.map some) (hR : isR.map (fun i => ws[i]?) = wr.map some) (hn : va_nd isR = true) (hdis : ∀ i ∈ isR, i ∉ isC)
    (kk : ∀ (u : S) (ra : Nat) (H1 : Heap) (locs1 : List Loc), post u → X u ra H1 → H.size ≤ H1.size → (∀ q : Nat, q < H.size → ¬ va_A wc H.size q → H1[q]? = H[q]?) → va_P D vwCl (wr ++ w1 u ra) H1 → va_D A (wr ++ w1 u ra) → va_S A H0 H1 locs1 → W p l e R s m args below meth c H1 locs1 (cells + mc) (slots + ms) Q (F0 m (pc + 3) ls (.ref ra :: rest))) : W p l e R s m args below meth c H locs cells slots Q (F0 m pc ls st0) := by
  have hF := va_free (wc := wc) hD hS hA isC hC
  refine va_callr hr hS (fun q _ h => hF q h) hF (fun u ra t H1 locs1 ht hvm hp hB hz hk hS1 => ?_)
  obtain ⟨hP1, hD1, hX1⟩ := hB
  rw [ht] at hP1 hX1
  obtain ⟨hP2, hD2⟩ := va_join hP hD isC isR hC hR hn hdis hk hF hP1 hD1
  exact kk u ra H1 locs1 hp hX1 hz hk hP2 hD2 hS1
/-- arrays by a place that is a number -/
theorem a_lald (hexec : p.tables.exec = Jvm.exec) (hb : c.code = cc) (hK : va_K D cl tys s) (hP : va_P D cl ws H) (q0 t0 : Nat) {cA : ClassId} {n k : Nat} {f : Nat → Int64} (ha : ws[q0]? = some (a, .inl (cA, n, .inr (.inl f)))) (ht : tys[t0]? = some (cA, .long)) (hk : k < n) (hn : n < 2 ^ 31) (hdg : decode cc pc = .ok (.laload, 1)) (kk : W p l e R s m args below meth c H locs cells slots Q (F0 m (pc + 1) ls (.long (f k) :: rest))) : W p l e R s m args below meth c H locs cells slots Q (F0 m pc ls (.int (nI k) :: .ref a :: rest)) :=
  va_lald hexec hb hK hP q0 t0 ha ht (vp_in_nI hk hn) hdg (by rw [nI_clamp (Nat.lt_trans hk hn)]; exact kk)
theorem a_iald (hexec : p.tables.exec = Jvm.exec) (hb : c.code = cc) (hK : va_K D cl tys s) (hP : va_P D cl ws H) (q0 t0 : Nat) {cA : ClassId} {n k : Nat} {f : Nat → Int32} (ha : ws[q0]? = some (a, .inl (cA, n, .inl f))) (ht : tys[t0]? = some (cA, .int)) (hk : k < n) (hn : n < 2 ^ 31) (hdg : decode cc pc = .ok (.iaload, 1)) (kk : W p l e R s m args below meth c H locs cells slots Q (F0 m (pc + 1) ls (.int (f k) :: rest))) : W p l e R s m args below meth c H locs cells slots Q (F0 m pc ls (.int (nI k) :: .ref a :: rest)) :=
  va_iald hexec hb hK hP q0 t0 ha ht (vp_in_nI hk hn) hdg (by rw [nI_clamp (Nat.lt_trans hk hn)]; exact kk)
theorem a_last (hexec : p.tables.exec = Jvm.exec) (hb : c.code = cc) (hK : va_K D cl tys s) (hP : va_P D cl ws H) (hD : va_D A ws) (hS : va_S A H0 H locs) (q0 t0 : Nat) {cA : ClassId} {n k : Nat} {x : Int64} {f : Nat → Int64} (ha : ws[q0]? = some (a, .inl (cA, n, .inr (.inl f)))) (ht : tys[t0]? = some (cA, .long)) (hk : k < n) (hn : n < 2 ^ 31) (hdg : decode cc pc = .ok (.lastore, 1)) (kk : ∀ (H1 : Heap) (locs1 : List Loc), va_P D cl (ws.set q0 (a, .inl (cA, n, .inr (.inl (vp_updL f k x))))) H1 → va_D A (ws.set q0 (a, .inl (cA, n, .inr (.inl (vp_updL f k x))))) → va_S A H0 H1 locs1 → W p l e R s m args below meth c H1 locs1 cells slots Q (F0 m (pc + 1) ls rest)) : W p l e R s m args below meth c H locs cells slots Q (F0 m pc ls (.long x :: .int (nI k) :: .ref a :: rest)) :=
  va_last hexec hb hK hP hD hS q0 t0 ha ht (vp_in_nI hk hn) hdg (by rw [nI_clamp (Nat.lt_trans hk hn)]; exact kk)
theorem a_iast (hexec : p.tables.exec = Jvm.exec) (hb : c.code = cc) (hK : va_K D cl tys s) (hP : va_P D cl ws H) (hD : va_D A ws) (hS : va_S A H0 H locs) (q0 t0 : Nat) {cA : ClassId} {n k : Nat} {x : Int32} {f : Nat → Int32} (ha : ws[q0]? = some (a, .inl (cA, n, .inl f))) (ht : tys[t0]? = some (cA, .int)) (hk : k < n) (hn : n < 2 ^ 31) (hdg : decode cc pc = .ok (.iastore, 1)) (kk : ∀ (H1 : Heap) (locs1 : List Loc), va_P D cl (ws.set q0 (a, .inl (cA, n, .inl (upd f k x)))) H1 → va_D A (ws.set q0 (a, .inl (cA, n, .inl (upd f k x)))) → va_S A H0 H1 locs1 → W p l e R s m args below meth c H1 locs1 cells slots Q (F0 m (pc + 1) ls rest)) : W p l e R s m args below meth c H locs cells slots Q (F0 m pc ls (.int x :: .int (nI k) :: .ref a :: rest)) :=
  va_iast hexec hb hK hP hD hS q0 t0 ha ht (vp_in_nI hk hn) hdg (by rw [nI_clamp (Nat.lt_trans hk hn)]; exact kk)
end KR
/-! numbers -/
theorem n_and (a b : Nat) : nI a &&& nI b = nI (a &&& b) := Int32.toBitVec_inj.mp (by rw [Int32.toBitVec_and]; exact BitVec.ofNat_and.symm)
theorem n_or (a b : Nat) : nI a ||| nI b = nI (a ||| b) := Int32.toBitVec_inj.mp (by rw [Int32.toBitVec_or]; exact BitVec.ofNat_or.symm)
theorem n_xor (a b : Nat) : nI a ^^^ nI b = nI (a ^^^ b) := Int32.toBitVec_inj.mp (by rw [Int32.toBitVec_xor]; exact BitVec.ofNat_xor.symm)
theorem n_s32 : ∀ k, k < 32 → ((nI k &&& 31).toBitVec.smod 32).toNat = k := by decide +kernel
theorem n_shr {a k : Nat} (ha : a < 2 ^ 31) (hk : k < 32) : nI a >>> (nI k &&& 31) = nI (a / 2 ^ k) := pk_shrN ha _ k (n_s32 k hk)
theorem n_shl {a k : Nat} (hk : k < 32) (h : a * 2 ^ k < 2 ^ 32) : nI a <<< (nI k &&& 31) = nI (a * 2 ^ k) := pk_shlN _ k (n_s32 k hk) h
theorem n_0 : (0 : Int32) = nI 0 := rfl
theorem n_eq {a b : Nat} (h : a = b) : nI a = nI b := by rw [h]
theorem n_i2l {a : Nat} (h : a < 2 ^ 31) : (nI a).toInt64 = lN a := nI_l h
