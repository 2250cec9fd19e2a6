/-! calls that may throw: what the callee got is lost then, all beside it stays -/
section KX
variable {p : Program} {l : Launch} {e : Env} {R : Room} {s : State} {m : MethodId} {args : Array Value} {below : List Frame} {meth : Method} {c : Code} {H : Heap} {locs : List Loc} {cells slots : Nat} {Q : State → Prop} {pc : Nat} {ls : Array Slot} {rest st0 : List Value} {D : va_G} {A : Nat → Prop} {ws wc wr : va_W} {H0 : Heap} {mc ms : Nat} {av : Array Value}
theorem x_v {S SX : Type} {post : S → Prop} {w1 : S → va_W} {X : S → Heap → Prop} {px : SX → Prop} {BX : Addr → String → SX → State → Prop} (hr : vx_Run p l e R s m args below meth c H locs cells slots mc ms (F0 m pc ls st0) rest (va_Qv post (B1 D (va_A wc H.size) w1 X) (va_A wc H.size) av) (vx_X px BX (va_A wc H.size)) (va_A wc H.size)) (hP : va_P D vwCl ws H) (hD : va_D A ws) (hS : va_S A H0 H locs) (hA : ∀ q, H0.size ≤ q → A q) (isC isR : List Nat) (hC : isC.map (fun i => ws[i]?) = wc.map some) (hR : isR.map (fun i => ws[i]?) = wr.map some) (hn : va_nd isR = true) (hdis : ∀ i ∈ isR, i ∉ isC)
    (kx : ∀ (E : String) (ce : Cell) (q9 : Addr) (u : SX) (t : State) (H1 : Heap) (locs1 : List Loc), t.heap = H1 → px u → BX q9 E u t → H.size ≤ H1.size → va_P D vwCl wr H1 → va_S A H0 H1 locs1 → H1[q9]? = some ce → ce.vm = .none → s.vm.findClass E = some ce.cls → vx_W p l e R s m args below meth c H1 locs1 (cells + mc) (slots + ms) Q (F0 m pc ls rest) q9)
    (kk : ∀ (u : S) (H1 : Heap) (locs1 : List Loc), post u → X u H1 → H.size ≤ H1.size → (∀ q : Nat, q < H.size → ¬ va_A wc H.size q → H1[q]? = H[q]?) → va_P D vwCl (wr ++ w1 u) H1 → va_D A (wr ++ w1 u) → va_S A H0 H1 locs1 → W p l e R s m args below meth c H1 locs1 (cells + mc) (slots + ms) Q (F0 m (pc + 3) ls rest)) : W p l e R s m args below meth c H locs cells slots Q (F0 m pc ls st0) := by
  have hF := va_free (wc := wc) hD hS hA isC hC
  have hB := RO.beside hP hD isC isR hC hR hdis
  refine vx_callv hr hS (fun q _ h => hF q h) hF (fun q _ h => hF q h) (fun E ce q9 u t H1 locs1 ht hvm hpx hbx hz hk hS1 h1 h2 h3 => ?_) (fun u t H1 locs1 ht hvm hp hB1 hz hk hS1 => ?_)
  · exact kx E ce q9 u t H1 locs1 ht hpx hbx hz (hB.1.kept (fun k q hq => hk q.1 (hB.1 k q hq).lt (hB.2 k q hq))) hS1 h1 h2 h3
  · obtain ⟨hP1, hD1, hX1⟩ := hB1
    rw [ht] at hP1 hX1
    obtain ⟨hP2, hD2⟩ := va_join hP hD isC isR hC hR hn hdis hk hF hP1 hD1
    exact kk u H1 locs1 hp hX1 hz hk hP2 hD2 hS1
theorem x_i {S SX : Type} {post : Int32 → S → Prop} {w1 : S → va_W} {X : S → Heap → Prop} {px : SX → Prop} {BX : Addr → String → SX → State → Prop} (hr : vx_Run p l e R s m args below meth c H locs cells slots mc ms (F0 m pc ls st0) rest (va_Qi post (B1 D (va_A wc H.size) w1 X) (va_A wc H.size) av) (vx_X px BX (va_A wc H.size)) (va_A wc H.size)) (hP : va_P D vwCl ws H) (hD : va_D A ws) (hS : va_S A H0 H locs) (hA : ∀ q, H0.size ≤ q → A q) (isC isR : List Nat) (hC : isC.map (fun i => ws[i]?) = wc.map some) (hR : isR.map (fun i => ws[i]?) = wr.map some) (hn : va_nd isR = true) (hdis : ∀ i ∈ isR, i ∉ isC)
    (kx : ∀ (E : String) (ce : Cell) (q9 : Addr) (u : SX) (t : State) (H1 : Heap) (locs1 : List Loc), t.heap = H1 → px u → BX q9 E u t → H.size ≤ H1.size → va_P D vwCl wr H1 → va_S A H0 H1 locs1 → H1[q9]? = some ce → ce.vm = .none → s.vm.findClass E = some ce.cls → vx_W p l e R s m args below meth c H1 locs1 (cells + mc) (slots + ms) Q (F0 m pc ls rest) q9)
    (kk : ∀ (r : Int32) (u : S) (H1 : Heap) (locs1 : List Loc), post r u → X u H1 → H.size ≤ H1.size → (∀ q : Nat, q < H.size → ¬ va_A wc H.size q → H1[q]? = H[q]?) → va_P D vwCl (wr ++ w1 u) H1 → va_D A (wr ++ w1 u) → va_S A H0 H1 locs1 → W p l e R s m args below meth c H1 locs1 (cells + mc) (slots + ms) Q (F0 m (pc + 3) ls (.int r :: rest))) : W p l e R s m args below meth c H locs cells slots Q (F0 m pc ls st0) := by
  have hF := va_free (wc := wc) hD hS hA isC hC
  have hB := RO.beside hP hD isC isR hC hR hdis
  refine vx_calli hr hS (fun q _ h => hF q h) hF (fun q _ h => hF q h) (fun E ce q9 u t H1 locs1 ht hvm hpx hbx hz hk hS1 h1 h2 h3 => ?_) (fun r u t H1 locs1 ht hvm hp hB1 hz hk hS1 => ?_)
  · exact kx E ce q9 u t H1 locs1 ht hpx hbx hz (hB.1.kept (fun k q hq => hk q.1 (hB.1 k q hq).lt (hB.2 k q hq))) hS1 h1 h2 h3
  · obtain ⟨hP1, hD1, hX1⟩ := hB1
    rw [ht] at hP1 hX1
    obtain ⟨hP2, hD2⟩ := va_join hP hD isC isR hC hR hn hdis hk hF hP1 hD1
    exact kk r u H1 locs1 hp hX1 hz hk hP2 hD2 hS1
theorem x_l {S SX : Type} {post : Int64 → S → Prop} {w1 : S → va_W} {X : S → Heap → Prop} {px : SX → Prop} {BX : Addr → String → SX → State → Prop} (hr : vx_Run p l e R s m args below meth c H locs cells slots mc ms (F0 m pc ls st0) rest (va_Ql post (B1 D (va_A wc H.size) w1 X) (va_A wc H.size) av) (vx_X px BX (va_A wc H.size)) (va_A wc H.size)) (hP : va_P D vwCl ws H) (hD : va_D A ws) (hS : va_S A H0 H locs) (hA : ∀ q, H0.size ≤ q → A q) (isC isR : List Nat) (hC : isC.map (fun i => ws[i]?) = wc.map some) (hR : isR.map (fun i => ws[i]?) = wr.map some) (hn : va_nd isR = true) (hdis : ∀ i ∈ isR, i ∉ isC)
    (kx : ∀ (E : String) (ce : Cell) (q9 : Addr) (u : SX) (t : State) (H1 : Heap) (locs1 : List Loc), t.heap = H1 → px u → BX q9 E u t → H.size ≤ H1.size → va_P D vwCl wr H1 → va_S A H0 H1 locs1 → H1[q9]? = some ce → ce.vm = .none → s.vm.findClass E = some ce.cls → vx_W p l e R s m args below meth c H1 locs1 (cells + mc) (slots + ms) Q (F0 m pc ls rest) q9)
    (kk : ∀ (r : Int64) (u : S) (H1 : Heap) (locs1 : List Loc), post r u → X u H1 → H.size ≤ H1.size → (∀ q : Nat, q < H.size → ¬ va_A wc H.size q → H1[q]? = H[q]?) → va_P D vwCl (wr ++ w1 u) H1 → va_D A (wr ++ w1 u) → va_S A H0 H1 locs1 → W p l e R s m args below meth c H1 locs1 (cells + mc) (slots + ms) Q (F0 m (pc + 3) ls (.long r :: rest))) : W p l e R s m args below meth c H locs cells slots Q (F0 m pc ls st0) := by
  have hF := va_free (wc := wc) hD hS hA isC hC
  have hB := RO.beside hP hD isC isR hC hR hdis
  refine vx_calll hr hS (fun q _ h => hF q h) hF (fun q _ h => hF q h) (fun E ce q9 u t H1 locs1 ht hvm hpx hbx hz hk hS1 h1 h2 h3 => ?_) (fun r u t H1 locs1 ht hvm hp hB1 hz hk hS1 => ?_)
  · exact kx E ce q9 u t H1 locs1 ht hpx hbx hz (hB.1.kept (fun k q hq => hk q.1 (hB.1 k q hq).lt (hB.2 k q hq))) hS1 h1 h2 h3
  · obtain ⟨hP1, hD1, hX1⟩ := hB1
    rw [ht] at hP1 hX1
    obtain ⟨hP2, hD2⟩ := va_join hP hD isC isR hC hR hn hdis hk hF hP1 hD1
    exact kk r u H1 locs1 hp hX1 hz hk hP2 hD2 hS1
theorem x_r {S SX : Type} {post : S → Prop} {w1 : S → Nat → va_W} {X : S → Nat → Heap → Prop} {px : SX → Prop} {BX : Addr → String → SX → State → Prop} (hr : vx_Run p l e R s m args below meth c H locs cells slots mc ms (F0 m pc ls st0) rest (va_Qr post (B1r D (va_A wc H.size) w1 X) (va_A wc H.size) av) (vx_X px BX (va_A wc H.size)) (va_A wc H.size)) (hP : va_P D vwCl ws H) (hD : va_D A ws) (hS : va_S A H0 H locs) (hA : ∀ q, H0.size ≤ q → A q) (isC isR : List Nat) (hC : isC.map (fun i => ws[i]?) = wc.map some) (hR : isR.map (fun i => ws[i]?) = wr.map some) (hn : va_nd isR = true) (hdis : ∀ i ∈ isR, i ∉ isC)
    (kx : ∀ (E : String) (ce : Cell) (q9 : Addr) (u : SX) (t : State) (H1 : Heap) (locs1 : List Loc), t.heap = H1 → px u → BX q9 E u t → H.size ≤ H1.size → va_P D vwCl wr H1 → va_S A H0 H1 locs1 → H1[q9]? = some ce → ce.vm = .none → s.vm.findClass E = some ce.cls → vx_W p l e R s m args below meth c H1 locs1 (cells + mc) (slots + ms) Q (F0 m pc ls rest) q9)
    (kk : ∀ (u : S) (ra : Nat) (H1 : Heap) (locs1 : List Loc), post u → X u ra H1 → H.size ≤ H1.size → (∀ q : Nat, q < H.size → ¬ va_A wc H.size q → H1[q]? = H[q]?) → va_P D vwCl (wr ++ w1 u ra) H1 → va_D A (wr ++ w1 u ra) → va_S A H0 H1 locs1 → W p l e R s m args below meth c H1 locs1 (cells + mc) (slots + ms) Q (F0 m (pc + 3) ls (.ref ra :: rest))) : W p l e R s m args below meth c H locs cells slots Q (F0 m pc ls st0) := by
  have hF := va_free (wc := wc) hD hS hA isC hC
  have hB := RO.beside hP hD isC isR hC hR hdis
  intro T hT X9
  rcases hr T hT X9 with ⟨v, st₀, t, T', L, h0, X', hL, e1, e2, ⟨⟨u, ra, hv, hp, hb⟩, hFF⟩, st⟩ | ⟨q, st₀, t, T', L, E, ce, h0, X', hL, e1, e2, ⟨u, hp, hb, hFF⟩, hce, hcv, hcl, st⟩
  · cases hv
    obtain ⟨k1, k2, k3⟩ := vx_keep h0 e1 hS (fun q _ h => hF q h) hF hL hFF
    obtain ⟨hP1, hD1, hX1⟩ := hb
    rw [← e1] at hP1 hX1
    obtain ⟨hP2, hD2⟩ := va_join hP hD isC isR hC hR hn hdis k2 hF hP1 hD1
    obtain ⟨t2, a1, b1⟩ := kk u ra T'.heap (locs ++ L) hp hX1 k1 k2 hP2 hD2 k3 T' rfl X'
    exact ⟨t2, st t2 a1, b1⟩
  · obtain ⟨k1, k2, k3⟩ := vx_keep h0 e1 hS (fun q _ h => hF q h) hF hL hFF
    obtain ⟨t2, a1, b1⟩ := kx E ce q u t T'.heap (locs ++ L) e1.symm hp hb k1 (hB.1.kept (fun k q hq => k2 q.1 (hB.1 k q hq).lt (hB.2 k q hq))) k3 (by rw [e1]; exact hce) hcv hcl T' rfl X'
    exact ⟨t2, st.trans a1, b1⟩
end KX
