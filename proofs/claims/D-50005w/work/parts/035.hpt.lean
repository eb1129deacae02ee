/-! methods that return or throw: the pure function's answer is .inl (the value) or .inr (the exception's number, the thrown cell) -/
abbrev Xq : Type := Nat × Nat
def exN (k : Nat) : String := match k with
  | 0 => "java/lang/IndexOutOfBoundsException"
  | 1 => "java/lang/IllegalArgumentException"
  | 2 => "java/lang/IllegalStateException"
  | 3 => "java/util/NoSuchElementException"
  | _ => "ExactChains$TextError"
/-- an exception of the library's was made: its cells are counted, its place isn't told -/
def hX (h : Hp) : Hp := (h.1, (hLo h, (hSz h, (hCc h + 1, hSl h + 6))))
def hsm (h u : Hp) : Prop := u.1 = h.1 ∧ hLo u = hLo h ∧ hSz h ≤ hSz u ∧ hCc u = hCc h ∧ hSl u = hSl h
theorem hle_X {h : Hp} : hle h (hX h) := ⟨Nat.le_refl _, Nat.le_add_right _ _, Nat.le_add_right _ _⟩
def xB {α : Type} (D : HD) (A : Nat → Prop) (out : (α ⊕ Xq) × Hp) : String → Addr → Hp → State → Prop := fun E q u t => ∃ k q', E = exN k ∧ out.1 = .inr (k, q') ∧ (k = 4 → q' = q ∧ u = out.2) ∧ hsm out.2 u ∧ hW D A u t
abbrev xC {α : Type} (D : HD) (A : Nat → Prop) (out : (α ⊕ Xq) × Hp) : String → Addr → State → State → Prop := vx_X (fun _ : Hp => True) (xB D A out) A
def bnx {α β : Type} (x : Option ((β ⊕ Xq) × Hp)) (f : β → Hp → Option ((α ⊕ Xq) × Hp)) : Option ((α ⊕ Xq) × Hp) := match x with
  | some (.inl r, h) => f r h
  | some (.inr q, h) => some (.inr q, h)
  | none => none
theorem bnx_s {α β : Type} {x : Option ((β ⊕ Xq) × Hp)} {f : β → Hp → Option ((α ⊕ Xq) × Hp)} {o : (α ⊕ Xq) × Hp} (e : bnx x f = some o) : (∃ r h, x = some (.inl r, h) ∧ f r h = some o) ∨ ∃ q h, x = some (.inr q, h) ∧ some (.inr q, h) = some o := by
  unfold bnx at e
  split at e
  · next r h => exact Or.inl ⟨r, h, rfl, e⟩
  · next q h => exact Or.inr ⟨q, h, rfl, e⟩
  · cases e
theorem mo_bnx {α β : Type} {h0 h : Hp} {x : Option ((β ⊕ Xq) × Hp)} {f : β → Hp → Option ((α ⊕ Xq) × Hp)} (hx : Mo h x) (e0 : hle h0 h) (k : ∀ a h2, hle h0 h2 → Mo h0 (f a h2)) : Mo h0 (bnx x f) := fun o q => by
  rcases bnx_s q with ⟨r, h2, e1, e2⟩ | ⟨q2, h2, e1, e2⟩
  · exact k r h2 (hle_tr e0 (hx _ e1)) o e2
  · cases e2
    exact hle_tr e0 (hx _ e1)
/-- the same, with a handler -/
def bnh {α β : Type} (x : Option ((β ⊕ Xq) × Hp)) (f : β → Hp → Option (α × Hp)) (g : Nat → Nat → Hp → Option (α × Hp)) : Option (α × Hp) := match x with
  | some (.inl r, h) => f r h
  | some (.inr q, h) => g q.1 q.2 h
  | none => none
theorem bnh_s {α β : Type} {x : Option ((β ⊕ Xq) × Hp)} {f : β → Hp → Option (α × Hp)} {g : Nat → Nat → Hp → Option (α × Hp)} {o : α × Hp} (e : bnh x f g = some o) : (∃ r h, x = some (.inl r, h) ∧ f r h = some o) ∨ ∃ k q h, x = some (.inr (k, q), h) ∧ g k q h = some o := by
  unfold bnh at e
  split at e
  · next r h => exact Or.inl ⟨r, h, rfl, e⟩
  · next q h => exact Or.inr ⟨q.1, q.2, h, rfl, e⟩
  · cases e
theorem mo_bnh {α β : Type} {h0 h : Hp} {x : Option ((β ⊕ Xq) × Hp)} {f : β → Hp → Option (α × Hp)} {g : Nat → Nat → Hp → Option (α × Hp)} (hx : Mo h x) (e0 : hle h0 h) (k : ∀ a h2, hle h0 h2 → Mo h0 (f a h2)) (k2 : ∀ a b h2, hle h0 h2 → Mo h0 (g a b h2)) : Mo h0 (bnh x f g) := fun o q => by
  rcases bnh_s q with ⟨r, h2, e1, e2⟩ | ⟨k9, q2, h2, e1, e2⟩
  · exact k r h2 (hle_tr e0 (hx _ e1)) o e2
  · exact k2 k9 q2 h2 (hle_tr e0 (hx _ e1)) o e2
theorem hsm_R {D : HD} {A : Nat → Prop} {h u : Hp} {H H1 : Heap} (hr : hR D A h H) (hs : hsm h u) (hz : H1.size = hSz u) (hq : ∀ q : Nat, q < H.size → H1[q]? = H[q]?) : hR D A u H1 := by
  obtain ⟨r1, r2, r3, r4⟩ := hr
  obtain ⟨s1, s2, s3, -, -⟩ := hs
  refine ⟨hz, fun q e he => ?_, fun q e he hl => ?_, fun q hq2 => r4 q (Nat.le_trans s3 hq2)⟩
  · rw [s1] at he
    exact (r2 q e he).kept (hq q (r2 q e he).lt)
  · rw [s1] at he
    rw [s2] at hl
    exact r3 q e he hl
/-- a callee's exception goes on, out of a method without handlers -/
theorem h_xpass {p : Program} {l : Launch} {e : Env} {R : Room} {s : State} {m : MethodId} {args : Array Value} {below : List Frame} {meth : Method} {c : Code} {H : Heap} {locs : List Loc} {cells slots : Nat} {pc : Nat} {ls : Array Slot} {rest : List Value} {A : Nat → Prop} {D : HD} {α : Type} {Qc : Array Value → State → Outcome → State → Prop} {out : (α ⊕ Xq) × Hp} {q0 : Xq} {u0 u : Hp} {E : String} {q9 : Addr} {ce : Cell} {mc0 ms0 : Nat} (hGr : hG D A s s.heap) (ht : ∀ x ∈ c.exceptionTable.toList, False) (hlocks : meth.locks = false) (hF : some ((.inr q0 : α ⊕ Xq), u0) = some out) (hb : cells ≤ mc0 ∧ slots ≤ ms0)
    (e1 : E = exN q0.1) (e2 : q0.1 = 4 → q0.2 = q9 ∧ u = u0) (e3 : hsm u0 u) (hr : hR D A u H) (hS : va_S A s.heap H locs) (hce : H[q9]? = some ce) (hv : ce.vm = .none) (hcl : s.vm.findClass E = some ce.cls) :
    vx_W p l e R s m args below meth c H locs cells slots (vx_MQ below Qc (xC D A out) args s mc0 ms0 A) (F0 m pc ls rest) q9 :=
  vx_out (fun x hx => (ht x hx).elim) hlocks hce hv hcl (fun t h1 h2 => ⟨u, trivial, ⟨q0.1, q0.2, e1, by cases hF; rfl, by cases hF; exact e2, by cases hF; exact e3, h_end hGr hr hS h1 h2⟩, hS.F h1⟩) hS.2.2 hb.1 hb.2
theorem h_xreti {p : Program} {l : Launch} {e : Env} {R : Room} {s : State} {m : MethodId} {args : Array Value} {below : List Frame} {meth : Method} {c : Code} {H : Heap} {locs : List Loc} {cells slots : Nat} {Q : State → Prop} {pc : Nat} {ls : Array Slot} {rest st0 : List Value} {a : Array Value} {A : Nat → Prop} {D : HD} {mc ms : Nat} {r0 : Int32} {u0 : Hp} {out : (Int32 ⊕ Xq) × Hp} (eo : out = (.inl r0, u0)) (hr0 : vx_Run p l e R s m args below meth c H locs cells slots mc ms (F0 m pc ls st0) rest (va_Qi (fun r u => ((.inl r : Int32 ⊕ Xq), u) = out) (hW D A) A a) (xC D A out) A) (hS : va_S A s.heap H locs)
    (kk : ∀ (H1 : Heap) (locs1 : List Loc), hR D A u0 H1 → va_S A s.heap H1 locs1 → W p l e R s m args below meth c H1 locs1 (cells + mc) (slots + ms) Q (F0 m (pc + 3) ls (.int r0 :: rest))) : W p l e R s m args below meth c H locs cells slots Q (F0 m pc ls st0) := by
  subst eo
  refine vx_calli hr0 hS (fun _ _ h => h) (fun _ h => h) (fun _ _ h => h) (fun E ce q9 u t H1 locs1 _ _ _ hX _ _ _ _ _ _ => ?_) (fun r u t H1 locs1 ht _ hp hB _ _ hS1 => ?_)
  · obtain ⟨k, q', -, h2, -⟩ := hX
    cases h2
  · cases hp
    exact kk H1 locs1 (by rw [← ht]; exact hB.1) hS1
theorem h_xthri {p : Program} {l : Launch} {e : Env} {R : Room} {s : State} {m : MethodId} {args : Array Value} {below : List Frame} {meth : Method} {c : Code} {H : Heap} {locs : List Loc} {cells slots : Nat} {Q : State → Prop} {pc : Nat} {ls : Array Slot} {rest st0 : List Value} {a : Array Value} {A : Nat → Prop} {D : HD} {mc ms : Nat} {q0 : Xq} {u0 : Hp} {out : (Int32 ⊕ Xq) × Hp} (eo : out = (.inr q0, u0)) (hr0 : vx_Run p l e R s m args below meth c H locs cells slots mc ms (F0 m pc ls st0) rest (va_Qi (fun r u => ((.inl r : Int32 ⊕ Xq), u) = out) (hW D A) A a) (xC D A out) A) (hS : va_S A s.heap H locs)
    (kx : ∀ (E : String) (q9 : Addr) (u : Hp) (H1 : Heap) (locs1 : List Loc) (ce : Cell), E = exN q0.1 → (q0.1 = 4 → q0.2 = q9 ∧ u = u0) → hsm u0 u → hR D A u H1 → va_S A s.heap H1 locs1 → H1[q9]? = some ce → ce.vm = .none → s.vm.findClass E = some ce.cls → vx_W p l e R s m args below meth c H1 locs1 (cells + mc) (slots + ms) Q (F0 m pc ls rest) q9) : W p l e R s m args below meth c H locs cells slots Q (F0 m pc ls st0) := by
  subst eo
  refine vx_calli hr0 hS (fun _ _ h => h) (fun _ h => h) (fun _ _ h => h) (fun E ce q9 u t H1 locs1 ht _ _ hX _ _ hS1 h1 h2 h3 => ?_) (fun r u t H1 locs1 _ _ hp _ _ _ _ => ?_)
  · obtain ⟨k, q', g1, g2, g3, g4, g5⟩ := hX
    cases g2
    exact kx E q9 u H1 locs1 ce g1 g3 g4 (by rw [← ht]; exact g5.1) hS1 h1 h2 h3
  · cases hp
theorem h_xretv {p : Program} {l : Launch} {e : Env} {R : Room} {s : State} {m : MethodId} {args : Array Value} {below : List Frame} {meth : Method} {c : Code} {H : Heap} {locs : List Loc} {cells slots : Nat} {Q : State → Prop} {pc : Nat} {ls : Array Slot} {rest st0 : List Value} {a : Array Value} {A : Nat → Prop} {D : HD} {mc ms : Nat} {r0 : Int32} {u0 : Hp} {out : (Int32 ⊕ Xq) × Hp} (eo : out = (.inl r0, u0)) (hr0 : vx_Run p l e R s m args below meth c H locs cells slots mc ms (F0 m pc ls st0) rest (va_Qv (fun u => ((.inl 0 : Int32 ⊕ Xq), u) = out) (hW D A) A a) (xC D A out) A) (hS : va_S A s.heap H locs)
    (kk : ∀ (H1 : Heap) (locs1 : List Loc), hR D A u0 H1 → va_S A s.heap H1 locs1 → W p l e R s m args below meth c H1 locs1 (cells + mc) (slots + ms) Q (F0 m (pc + 3) ls (rest))) : W p l e R s m args below meth c H locs cells slots Q (F0 m pc ls st0) := by
  subst eo
  refine vx_callv hr0 hS (fun _ _ h => h) (fun _ h => h) (fun _ _ h => h) (fun E ce q9 u t H1 locs1 _ _ _ hX _ _ _ _ _ _ => ?_) (fun u t H1 locs1 ht _ hp hB _ _ hS1 => ?_)
  · obtain ⟨k, q', -, h2, -⟩ := hX
    cases h2
  · cases hp
    exact kk H1 locs1 (by rw [← ht]; exact hB.1) hS1
theorem h_xthrv {p : Program} {l : Launch} {e : Env} {R : Room} {s : State} {m : MethodId} {args : Array Value} {below : List Frame} {meth : Method} {c : Code} {H : Heap} {locs : List Loc} {cells slots : Nat} {Q : State → Prop} {pc : Nat} {ls : Array Slot} {rest st0 : List Value} {a : Array Value} {A : Nat → Prop} {D : HD} {mc ms : Nat} {q0 : Xq} {u0 : Hp} {out : (Int32 ⊕ Xq) × Hp} (eo : out = (.inr q0, u0)) (hr0 : vx_Run p l e R s m args below meth c H locs cells slots mc ms (F0 m pc ls st0) rest (va_Qv (fun u => ((.inl 0 : Int32 ⊕ Xq), u) = out) (hW D A) A a) (xC D A out) A) (hS : va_S A s.heap H locs)
    (kx : ∀ (E : String) (q9 : Addr) (u : Hp) (H1 : Heap) (locs1 : List Loc) (ce : Cell), E = exN q0.1 → (q0.1 = 4 → q0.2 = q9 ∧ u = u0) → hsm u0 u → hR D A u H1 → va_S A s.heap H1 locs1 → H1[q9]? = some ce → ce.vm = .none → s.vm.findClass E = some ce.cls → vx_W p l e R s m args below meth c H1 locs1 (cells + mc) (slots + ms) Q (F0 m pc ls rest) q9) : W p l e R s m args below meth c H locs cells slots Q (F0 m pc ls st0) := by
  subst eo
  refine vx_callv hr0 hS (fun _ _ h => h) (fun _ h => h) (fun _ _ h => h) (fun E ce q9 u t H1 locs1 ht _ _ hX _ _ hS1 h1 h2 h3 => ?_) (fun u t H1 locs1 _ _ hp _ _ _ _ => ?_)
  · obtain ⟨k, q', g1, g2, g3, g4, g5⟩ := hX
    cases g2
    exact kx E q9 u H1 locs1 ce g1 g3 g4 (by rw [← ht]; exact g5.1) hS1 h1 h2 h3
  · cases hp
theorem h_xretr {p : Program} {l : Launch} {e : Env} {R : Room} {s : State} {m : MethodId} {args : Array Value} {below : List Frame} {meth : Method} {c : Code} {H : Heap} {locs : List Loc} {cells slots : Nat} {Q : State → Prop} {pc : Nat} {ls : Array Slot} {rest st0 : List Value} {a : Array Value} {A : Nat → Prop} {D : HD} {mc ms : Nat} {r0 : Nat} {u0 : Hp} {out : (Nat ⊕ Xq) × Hp} (eo : out = (.inl r0, u0)) (hr0 : vx_Run p l e R s m args below meth c H locs cells slots mc ms (F0 m pc ls st0) rest (va_Qr (fun _ : Hp => True) (fun u r t => ((.inl r : Nat ⊕ Xq), u) = out ∧ hW D A u t) A a) (xC D A out) A) (hS : va_S A s.heap H locs)
    (kk : ∀ (H1 : Heap) (locs1 : List Loc), hR D A u0 H1 → va_S A s.heap H1 locs1 → W p l e R s m args below meth c H1 locs1 (cells + mc) (slots + ms) Q (F0 m (pc + 3) ls (.ref r0 :: rest))) : W p l e R s m args below meth c H locs cells slots Q (F0 m pc ls st0) := by
  subst eo
  intro T hT X
  rcases hr0 T hT X with ⟨v, st₀, t, T', L, h0, X', hL, e1, e2, ⟨⟨u, r, hv, hp, hb, hb2⟩, hF⟩, st⟩ | ⟨q, st₀, t, T', L, E, ce, h0, X', hL, e1, e2, ⟨u, hp, hb, hF⟩, hce, hcv, hcl, st⟩
  · cases hv
    cases hb
    obtain ⟨k1, k2, k3⟩ := vx_keep h0 e1 hS (fun _ _ h => h) (fun _ h => h) hL hF
    obtain ⟨t2, a1, b1⟩ := kk T'.heap (locs ++ L) (by rw [e1]; exact hb2.1) k3 T' rfl X'
    exact ⟨t2, st t2 a1, b1⟩
  · obtain ⟨k, q', -, h2, -⟩ := hb
    cases h2
theorem h_xthrr {p : Program} {l : Launch} {e : Env} {R : Room} {s : State} {m : MethodId} {args : Array Value} {below : List Frame} {meth : Method} {c : Code} {H : Heap} {locs : List Loc} {cells slots : Nat} {Q : State → Prop} {pc : Nat} {ls : Array Slot} {rest st0 : List Value} {a : Array Value} {A : Nat → Prop} {D : HD} {mc ms : Nat} {q0 : Xq} {u0 : Hp} {out : (Nat ⊕ Xq) × Hp} (eo : out = (.inr q0, u0)) (hr0 : vx_Run p l e R s m args below meth c H locs cells slots mc ms (F0 m pc ls st0) rest (va_Qr (fun _ : Hp => True) (fun u r t => ((.inl r : Nat ⊕ Xq), u) = out ∧ hW D A u t) A a) (xC D A out) A) (hS : va_S A s.heap H locs)
    (kx : ∀ (E : String) (q9 : Addr) (u : Hp) (H1 : Heap) (locs1 : List Loc) (ce : Cell), E = exN q0.1 → (q0.1 = 4 → q0.2 = q9 ∧ u = u0) → hsm u0 u → hR D A u H1 → va_S A s.heap H1 locs1 → H1[q9]? = some ce → ce.vm = .none → s.vm.findClass E = some ce.cls → vx_W p l e R s m args below meth c H1 locs1 (cells + mc) (slots + ms) Q (F0 m pc ls rest) q9) : W p l e R s m args below meth c H locs cells slots Q (F0 m pc ls st0) := by
  subst eo
  intro T hT X
  rcases hr0 T hT X with ⟨v, st₀, t, T', L, h0, X', hL, e1, e2, ⟨⟨u, r, hv, hp, hb, hb2⟩, hF⟩, st⟩ | ⟨q, st₀, t, T', L, E, ce, h0, X', hL, e1, e2, ⟨u, hp, hb, hF⟩, hce, hcv, hcl, st⟩
  · cases hb
  · obtain ⟨k, q', g1, g2, g3, g4, g5⟩ := hb
    cases g2
    obtain ⟨k1, k2, k3⟩ := vx_keep h0 e1 hS (fun _ _ h => h) (fun _ h => h) hL hF
    obtain ⟨t2, a1, b1⟩ := kx E q u T'.heap (locs ++ L) ce g1 g3 g4 (by rw [e1]; exact g5.1) k3 (by rw [e1]; exact hce) hcv hcl T' rfl X'
    exact ⟨t2, st.trans a1, b1⟩
set_option maxRecDepth 100000 in
theorem h_xat0 {D : HD} {A : Nat → Prop} {args : Array Value} {s : State} (hts : ∀ w ∈ lw_all, w.before args s = true) (hGr : hG D A s s.heap) : ∀ w ∈ vx_at0 "ExactChains" 9 "java/lang/IndexOutOfBoundsException" ["java/lang/RuntimeException", "java/lang/Exception"], w.before args s = true :=
  vx_c (hts _ q107) (vx_c (hts _ q220) (vx_c (hts _ q229) (vx_c (hts _ q253) (vx_c (hts _ q256) (vx_c (hts _ q258) (vx_c (hts _ q221) (vx_c (hts _ q222) (vx_c (hts _ q149) (vx_c (hts _ q150) (vx_c (hts _ q223) (vx_c (hts _ q228) (vx_c (hts _ q254) (vx_c (hts _ q497) (vx_c (hts _ q210) (vx_c (hts _ q498) (vx_c (hts _ q212) (vx_c (hts _ q499) (vx_c (hts _ q214) (vx_c (hts _ q224) (vx_c (hts _ q226) (vx_c (hts _ q216) (vx_c (hts _ q1706) (vx_c (hts _ q1707) (vx_c (hts _ q1708) (vx_c (hts _ q808) (vx_c (va_Nw.use rfl (hGr.nw q201 rfl)) (vx_c (hts _ q808) (vx_c (hts _ q809) (vx_c (hts _ q810) (vx_c (hts _ q811) (vx_c (va_Nw.use rfl (hGr.nw q203 rfl)) (vx_c (hts _ q811) (vx_c (hts _ q812) (vx_c (hts _ q813) (vx_c (hts _ q221) (vx_c (va_Nw.use rfl (hGr.nw q205 rfl)) (vx_c (hts _ q1705) (vx_c (hts _ q1697) (vx_c (va_Nw.use rfl (hGr.nw q1698 rfl)) (vx_c (hts _ q1699) (vx_c (hts _ q237) (vx_c (hts _ q1700) (vx_c (hts _ q1701) (vx_c (hts _ q1702) (vx_c (hts _ q1703) (vx_c (hts _ q495) (vx_c (hts _ q218) (vx_c (hts _ q1704) vx_n))))))))))))))))))))))))))))))))))))))))))))))))
set_option maxRecDepth 100000 in
theorem h_xgd0 : ∀ w ∈ Cond.classLink "ExactChains" 7 "java/lang/IndexOutOfBoundsException" :: Cond.initialized "java/lang/IndexOutOfBoundsException" :: vx_at0 "ExactChains" 9 "java/lang/IndexOutOfBoundsException" ["java/lang/RuntimeException", "java/lang/Exception"], vx_ot w = true := by decide +kernel
set_option maxRecDepth 100000 in
theorem h_xat1 {D : HD} {A : Nat → Prop} {args : Array Value} {s : State} (hts : ∀ w ∈ lw_all, w.before args s = true) (hGr : hG D A s s.heap) : ∀ w ∈ vx_at0 "ExactChains" 15 "java/lang/IllegalArgumentException" ["java/lang/RuntimeException", "java/lang/Exception"], w.before args s = true :=
  vx_c (hts _ q107) (vx_c (hts _ q220) (vx_c (hts _ q229) (vx_c (hts _ q253) (vx_c (hts _ q256) (vx_c (hts _ q258) (vx_c (hts _ q221) (vx_c (hts _ q222) (vx_c (hts _ q149) (vx_c (hts _ q150) (vx_c (hts _ q223) (vx_c (hts _ q228) (vx_c (hts _ q254) (vx_c (hts _ q497) (vx_c (hts _ q210) (vx_c (hts _ q498) (vx_c (hts _ q212) (vx_c (hts _ q499) (vx_c (hts _ q214) (vx_c (hts _ q224) (vx_c (hts _ q226) (vx_c (hts _ q216) (vx_c (hts _ q1428) (vx_c (hts _ q1429) (vx_c (hts _ q1430) (vx_c (hts _ q808) (vx_c (va_Nw.use rfl (hGr.nw q201 rfl)) (vx_c (hts _ q808) (vx_c (hts _ q809) (vx_c (hts _ q810) (vx_c (hts _ q811) (vx_c (va_Nw.use rfl (hGr.nw q203 rfl)) (vx_c (hts _ q811) (vx_c (hts _ q812) (vx_c (hts _ q813) (vx_c (hts _ q221) (vx_c (va_Nw.use rfl (hGr.nw q205 rfl)) (vx_c (hts _ q1427) (vx_c (hts _ q199) (vx_c (va_Nw.use rfl (hGr.nw q200 rfl)) (vx_c (hts _ q207) (vx_c (hts _ q208) (vx_c (hts _ q209) (vx_c (hts _ q211) (vx_c (hts _ q213) (vx_c (hts _ q215) (vx_c (hts _ q495) (vx_c (hts _ q218) (vx_c (hts _ q217) vx_n))))))))))))))))))))))))))))))))))))))))))))))))
set_option maxRecDepth 100000 in
theorem h_xgd1 : ∀ w ∈ Cond.classLink "ExactChains" 13 "java/lang/IllegalArgumentException" :: Cond.initialized "java/lang/IllegalArgumentException" :: vx_at0 "ExactChains" 15 "java/lang/IllegalArgumentException" ["java/lang/RuntimeException", "java/lang/Exception"], vx_ot w = true := by decide +kernel
set_option maxRecDepth 100000 in
theorem h_xat2 {D : HD} {A : Nat → Prop} {args : Array Value} {s : State} (hts : ∀ w ∈ lw_all, w.before args s = true) (hGr : hG D A s s.heap) : ∀ w ∈ vx_at0 "ExactChains" 18 "java/lang/IllegalStateException" ["java/lang/RuntimeException", "java/lang/Exception"], w.before args s = true :=
  vx_c (hts _ q107) (vx_c (hts _ q220) (vx_c (hts _ q229) (vx_c (hts _ q253) (vx_c (hts _ q256) (vx_c (hts _ q258) (vx_c (hts _ q221) (vx_c (hts _ q222) (vx_c (hts _ q149) (vx_c (hts _ q150) (vx_c (hts _ q223) (vx_c (hts _ q228) (vx_c (hts _ q254) (vx_c (hts _ q497) (vx_c (hts _ q210) (vx_c (hts _ q498) (vx_c (hts _ q212) (vx_c (hts _ q499) (vx_c (hts _ q214) (vx_c (hts _ q224) (vx_c (hts _ q226) (vx_c (hts _ q216) (vx_c (hts _ q1331) (vx_c (hts _ q1332) (vx_c (hts _ q1333) (vx_c (hts _ q808) (vx_c (va_Nw.use rfl (hGr.nw q201 rfl)) (vx_c (hts _ q808) (vx_c (hts _ q809) (vx_c (hts _ q810) (vx_c (hts _ q811) (vx_c (va_Nw.use rfl (hGr.nw q203 rfl)) (vx_c (hts _ q811) (vx_c (hts _ q812) (vx_c (hts _ q813) (vx_c (hts _ q221) (vx_c (va_Nw.use rfl (hGr.nw q205 rfl)) (vx_c (hts _ q1330) (vx_c (hts _ q830) (vx_c (va_Nw.use rfl (hGr.nw q831 rfl)) (vx_c (hts _ q832) (vx_c (hts _ q236) (vx_c (hts _ q833) (vx_c (hts _ q834) (vx_c (hts _ q835) (vx_c (hts _ q836) (vx_c (hts _ q495) (vx_c (hts _ q218) (vx_c (hts _ q837) vx_n))))))))))))))))))))))))))))))))))))))))))))))))
set_option maxRecDepth 100000 in
theorem h_xgd2 : ∀ w ∈ Cond.classLink "ExactChains" 16 "java/lang/IllegalStateException" :: Cond.initialized "java/lang/IllegalStateException" :: vx_at0 "ExactChains" 18 "java/lang/IllegalStateException" ["java/lang/RuntimeException", "java/lang/Exception"], vx_ot w = true := by decide +kernel
set_option maxRecDepth 100000 in
theorem h_xat3 {D : HD} {A : Nat → Prop} {args : Array Value} {s : State} (hts : ∀ w ∈ lw_all, w.before args s = true) (hGr : hG D A s s.heap) : ∀ w ∈ vx_at0 "ExactChains" 21 "java/util/NoSuchElementException" ["java/lang/RuntimeException", "java/lang/Exception"], w.before args s = true :=
  vx_c (hts _ q107) (vx_c (hts _ q220) (vx_c (hts _ q229) (vx_c (hts _ q253) (vx_c (hts _ q256) (vx_c (hts _ q258) (vx_c (hts _ q221) (vx_c (hts _ q222) (vx_c (hts _ q149) (vx_c (hts _ q150) (vx_c (hts _ q223) (vx_c (hts _ q228) (vx_c (hts _ q254) (vx_c (hts _ q497) (vx_c (hts _ q210) (vx_c (hts _ q498) (vx_c (hts _ q212) (vx_c (hts _ q499) (vx_c (hts _ q214) (vx_c (hts _ q224) (vx_c (hts _ q226) (vx_c (hts _ q216) (vx_c (hts _ q805) (vx_c (hts _ q806) (vx_c (hts _ q807) (vx_c (hts _ q808) (vx_c (va_Nw.use rfl (hGr.nw q201 rfl)) (vx_c (hts _ q808) (vx_c (hts _ q809) (vx_c (hts _ q810) (vx_c (hts _ q811) (vx_c (va_Nw.use rfl (hGr.nw q203 rfl)) (vx_c (hts _ q811) (vx_c (hts _ q812) (vx_c (hts _ q813) (vx_c (hts _ q221) (vx_c (va_Nw.use rfl (hGr.nw q205 rfl)) (vx_c (hts _ q1910) (vx_c (hts _ q796) (vx_c (va_Nw.use rfl (hGr.nw q797 rfl)) (vx_c (hts _ q798) (vx_c (hts _ q260) (vx_c (hts _ q799) (vx_c (hts _ q800) (vx_c (hts _ q801) (vx_c (hts _ q802) (vx_c (hts _ q495) (vx_c (hts _ q218) (vx_c (hts _ q803) vx_n))))))))))))))))))))))))))))))))))))))))))))))))
set_option maxRecDepth 100000 in
theorem h_xgd3 : ∀ w ∈ Cond.classLink "ExactChains" 19 "java/util/NoSuchElementException" :: Cond.initialized "java/util/NoSuchElementException" :: vx_at0 "ExactChains" 21 "java/util/NoSuchElementException" ["java/lang/RuntimeException", "java/lang/Exception"], vx_ot w = true := by decide +kernel
theorem h_throw {p : Program} {l : Launch} {e : Env} {R : Room} {s : State} {m : MethodId} {args : Array Value} {below : List Frame} {meth : Method} {c : Code} {H : Heap} {locs : List Loc} {cells slots : Nat} {pc : Nat} {ls : Array Slot} {rest : List Value} {A : Nat → Prop} {D : HD} {α : Type} {Qc : Array Value → State → Outcome → State → Prop} {out : (α ⊕ Xq) × Hp} {h h0 : Hp} {cc : ByteArray} {k ik ic mc0 ms0 : Nat} (hk4 : k < 4) (hx : p.tables.exec = Jvm.exec) (hb : c.code = cc) (hl0 : l.stackTraces = false) (hml : c.maxLocals = ls.size) (hown : s.vm.findClass "ExactChains" = some m.cls) (hfit : Bundle.fit (exN k) = true)
    (hlk : (Cond.classLink "ExactChains" ik (exN k)).before args s = true) (hini : (Cond.initialized (exN k)).before args s = true) (hat : ∀ w ∈ vx_at0 "ExactChains" ic (exN k) ["java/lang/RuntimeException", "java/lang/Exception"], w.before args s = true) (hgd : ∀ w ∈ Cond.classLink "ExactChains" ik (exN k) :: Cond.initialized (exN k) :: vx_at0 "ExactChains" ic (exN k) ["java/lang/RuntimeException", "java/lang/Exception"], vx_ot w = true)
    (hGr : hG D A s s.heap) (hr : hR D A h H) (hS : va_S A s.heap H locs) (ht : ∀ x ∈ c.exceptionTable.toList, False) (hlocks : meth.locks = false)
    (d0 : decode cc pc = .ok (.new ik, 3)) (d3 : decode cc (pc + 3) = .ok (.dup, 1)) (d4 : decode cc (pc + 4) = .ok (.invokespecial ic, 3)) (d7 : decode cc (pc + 7) = .ok (.athrow, 1))
    (hc : cst h0 cells slots h) (hF : some ((.inr (k, 0) : α ⊕ Xq), hX h) = some out) (hmc : hCc out.2 = hCc h0 + mc0) (hms : hSl out.2 = hSl h0 + ms0)
    (hfr : 5 < R.frames) (hlo : (rest.map fun v => v.category).sum + 81 ≤ R.locals) (hcR : mc0 ≤ R.cells) (hsR : ms0 ≤ R.slots) :
    W p l e R s m args below meth c H locs cells slots (vx_MQ below Qc (xC D A out) args s mc0 ms0 A) (F0 m pc ls rest) := by
  cases hF
  obtain ⟨c1, c2⟩ := hc
  have b1 : cells + 1 ≤ mc0 := by
    have : hCc h + 1 = hCc h0 + mc0 := hmc
    omega
  have b2 : slots + 6 ≤ ms0 := by
    have : hSl h + 6 = hSl h0 + ms0 := hms
    omega
  refine vx_throw0 hx hb hl0 (own := "ExactChains") (cls := exN k) (names := ["java/lang/RuntimeException", "java/lang/Exception"]) hown hfit (by decide +kernel) hlk hini hat hgd hGr.un hGr.su hS hml.symm d0 d3 d4 d7 (fun x hx => (ht x hx).elim) hfr hlo (Nat.le_trans b1 hcR) (Nat.le_trans b2 hsR) hlocks (fun q t hW1 hz hq => ?_) hS.2.2 b1 b2
  have hS1 : va_S A s.heap t.heap locs := ⟨Nat.le_trans hS.1 hz, fun x z1 z2 => (hq x (Nat.lt_of_lt_of_le z1 hS.1)).trans (hS.2.1 x z1 z2), hS.2.2⟩
  have hsm1 : hsm (hX h) (h.1, (hLo h, (t.heap.size, (hCc h + 1, hSl h + 6)))) := ⟨rfl, rfl, by show hSz h ≤ t.heap.size; rw [← hr.1]; exact hz, rfl, rfl⟩
  have hsm2 : hsm h (h.1, (hLo h, (t.heap.size, (hCc h, hSl h)))) := ⟨rfl, rfl, by show hSz h ≤ t.heap.size; rw [← hr.1]; exact hz, rfl, rfl⟩
  have hr2 : hR D A (h.1, (hLo h, (t.heap.size, (hCc h + 1, hSl h + 6)))) t.heap := (hsm_R hr hsm2 rfl hq : hR D A (h.1, (hLo h, (t.heap.size, (hCc h, hSl h)))) t.heap)
  exact ⟨_, trivial, ⟨k, 0, rfl, rfl, fun e => absurd e (by omega), hsm1, h_end hGr hr2 hS1 rfl hW1⟩, hS1.F rfl⟩
/-- a TextError is thrown out of a method without handlers -/
theorem h_athr {p : Program} {l : Launch} {e : Env} {R : Room} {s : State} {m : MethodId} {args : Array Value} {below : List Frame} {meth : Method} {c : Code} {H : Heap} {locs : List Loc} {cells slots : Nat} {pc : Nat} {ls : Array Slot} {rest : List Value} {A : Nat → Prop} {D : HD} {α : Type} {Qc : Array Value → State → Outcome → State → Prop} {out : (α ⊕ Xq) × Hp} {h : Hp} {cc : ByteArray} {q mc0 ms0 : Nat} {fs : List Value} (hx : p.tables.exec = Jvm.exec) (hb : c.code = cc) (hGr : hG D A s s.heap) (hr : hR D A h H) (hS : va_S A s.heap H locs) (ht : ∀ x ∈ c.exceptionTable.toList, False) (hlocks : meth.locks = false) (he : h.1 q = some (.inr (6, fs))) (hF : some ((.inr (4, q) : α ⊕ Xq), h) = some out) (hbd : cells ≤ mc0 ∧ slots ≤ ms0) (hd : decode cc pc = .ok (.athrow, 1)) :
    W p l e R s m args below meth c H locs cells slots (vx_MQ below Qc (xC D A out) args s mc0 ms0 A) (F0 m pc ls (.ref q :: rest)) := by
  obtain ⟨ce, hce, -, hcl⟩ := va_recv (q0 := 0) hGr.K (va_P1 (hr.at_o he (by decide))) (ci := 6) rfl rfl
  have hv : ce.vm = .none := by
    obtain ⟨r9, -, cell9, g1, -, g3, -⟩ := hr.at_o he (by decide)
    cases hce.symm.trans g1
    exact g3
  intro T hT X
  have hw : vx_W p l e R s m args below meth c H locs cells slots (vx_MQ below Qc (xC D A out) args s mc0 ms0 A) (F0 m pc ls rest) q :=
    vx_out (fun x hx => (ht x hx).elim) hlocks hce hv (E := "ExactChains$TextError") hcl (fun t h1 h2 => ⟨h, trivial, ⟨4, q, rfl, by cases hF; rfl, fun _ => by cases hF; exact ⟨rfl, rfl⟩, by cases hF; exact ⟨rfl, rfl, Nat.le_refl _, rfl, rfl⟩, h_end hGr hr hS h1 h2⟩, hS.F h1⟩) hS.2.2 hbd.1 hbd.2
  obtain ⟨t, st, hq⟩ := hw T hT X
  refine ⟨t, ?_, hq⟩
  have hd' : decode c.code (F0 m pc ls (.ref q :: rest)).pc = .ok (.athrow, 1) := by rw [hb]; exact hd
  jvm_step X.here [X.here.top, hx, hd', athrow.wp_sem]
  exact st
theorem lk_out {x : Int32} {d : Int} : ∀ {ps : List (Int × Int)}, (∀ q ∈ ps, x.toInt ≠ q.1) → lookupswitch.offset ps d x.toInt = d
  | [], _ => rfl
  | (a, o) :: r, h => by
    show (if a = x.toInt then o else lookupswitch.offset r d x.toInt) = d
    rw [if_neg (fun e => h (a, o) List.mem_cons_self e.symm)]
    exact lk_out (fun q hq => h q (List.mem_cons_of_mem _ hq))
theorem lk_ne {x : Int32} {k : Int} (c : Int32) (hk : c.toInt = k) (h : ¬ x = c) : x.toInt ≠ k := fun e => h (Int32.toInt_inj.mp (e.trans hk.symm))
theorem tb_aux {x : Int32} (n : Nat) (hn : n < 1000) (h : ∀ k, k < n → ¬ x = Int32.ofNat k) : x.toInt < 0 ∨ (n : Int) - 1 < x.toInt := by
  rcases Decidable.em (x.toInt < 0 ∨ (n : Int) - 1 < x.toInt) with q | q
  · exact q
  · exfalso
    have h1 : x.toInt.toNat < n := by omega
    refine h x.toInt.toNat h1 (Int32.toInt_inj.mp ?_)
    rw [Int32.toInt_ofNat_of_lt (by omega)]
    omega
theorem tb_out4 {x : Int32} (c0 : ¬ x = 0) (c1 : ¬ x = 1) (c2 : ¬ x = 2) (c3 : ¬ x = 3) : x.toInt < 0 ∨ 3 < x.toInt := tb_aux 4 (by decide) (fun k hk => by match k, hk with | 0, _ => exact c0 | 1, _ => exact c1 | 2, _ => exact c2 | 3, _ => exact c3)
theorem tb_out9 {x : Int32} (c0 : ¬ x = 0) (c1 : ¬ x = 1) (c2 : ¬ x = 2) (c3 : ¬ x = 3) (c4 : ¬ x = 4) (c5 : ¬ x = 5) (c6 : ¬ x = 6) (c7 : ¬ x = 7) (c8 : ¬ x = 8) : x.toInt < 0 ∨ 8 < x.toInt := tb_aux 9 (by decide) (fun k hk => by match k, hk with | 0, _ => exact c0 | 1, _ => exact c1 | 2, _ => exact c2 | 3, _ => exact c3 | 4, _ => exact c4 | 5, _ => exact c5 | 6, _ => exact c6 | 7, _ => exact c7 | 8, _ => exact c8)
