/-! growth: what a pure function's heap may become; the room a walk has used -/
def Mo {α : Type} (h : Hp) (x : Option (α × Hp)) : Prop := ∀ o, x = some o → hle h o.2
theorem mo_no {α : Type} {h : Hp} : Mo h (none : Option (α × Hp)) := fun _ e => nomatch e
theorem mo_ret {α : Type} {h0 h : Hp} {r : α} (e : hle h0 h) : Mo h0 (some (r, h)) := fun _ q => by cases q; exact e
theorem mo_tr {α : Type} {h0 h : Hp} {x : Option (α × Hp)} (e : hle h0 h) (k : Mo h x) : Mo h0 x := fun o q => hle_tr e (k o q)
theorem mo_ite {α : Type} {h0 : Hp} {c : Prop} [Decidable c] {x y : Option (α × Hp)} (a : Mo h0 x) (b : Mo h0 y) : Mo h0 (if c then x else y) := by
  by_cases h : c
  · rw [if_pos h]; exact a
  · rw [if_neg h]; exact b
theorem mo_gd {α : Type} {h0 : Hp} {b : Bool} {x : Option (α × Hp)} (k : Mo h0 x) : Mo h0 (gd b x) := fun o q => k o (gd_s q).2
theorem mo_gI {α : Type} {h0 h : Hp} {a ci j : Nat} {K : Int32 → Option (α × Hp)} (k : ∀ x, Mo h0 (K x)) : Mo h0 (gI h a ci j K) := fun o q => by obtain ⟨_, x, -, -, e⟩ := gI_s q; exact k x o e
theorem mo_gQ {α : Type} {h0 h : Hp} {a ci j : Nat} {K : Nat → Option (α × Hp)} (k : ∀ x, Mo h0 (K x)) : Mo h0 (gQ h a ci j K) := fun o q => by obtain ⟨_, x, -, -, e⟩ := gQ_s q; exact k x o e
theorem mo_gC {α : Type} {h0 h : Hp} {a ci : Nat} {K : Option (α × Hp)} (k : Mo h0 K) : Mo h0 (gC h a ci K) := fun o q => by obtain ⟨_, -, e⟩ := gC_s q; exact k o e
theorem mo_aI {α : Type} {h0 h : Hp} {a kd : Nat} {i : Int32} {K : Int32 → Option (α × Hp)} (k : ∀ x, Mo h0 (K x)) : Mo h0 (aI h a kd i K) := fun o q => by obtain ⟨_, _, -, -, e⟩ := aI_s q; exact k _ o e
theorem mo_aQ {α : Type} {h0 h : Hp} {a kd : Nat} {i : Int32} {K : Nat → Option (α × Hp)} (k : ∀ x, Mo h0 (K x)) : Mo h0 (aQ h a kd i K) := fun o q => by obtain ⟨_, _, _, -, -, -, e⟩ := aQ_s q; exact k _ o e
theorem mo_aO {α : Type} {h0 h : Hp} {a kd : Nat} {i : Int32} {K : Option Nat → Option (α × Hp)} (k : ∀ x, Mo h0 (K x)) : Mo h0 (aO h a kd i K) := fun o q => by obtain ⟨_, _, -, -, e⟩ := aO_s q; exact k _ o e
theorem mo_aL {α : Type} {h0 h : Hp} {a : Nat} {K : Int32 → Option (α × Hp)} (k : ∀ x, Mo h0 (K x)) : Mo h0 (aL h a K) := fun o q => by obtain ⟨_, _, -, -, e⟩ := aL_s q; exact k _ o e
theorem mo_oN {α : Type} {h0 : Hp} {x : Option Nat} {K0 : Option (α × Hp)} {K : Nat → Option (α × Hp)} (k0 : Mo h0 K0) (k : ∀ b, Mo h0 (K b)) : Mo h0 (oN x K0 K) := by
  cases x with
  | none => exact k0
  | some b => exact k b
theorem mo_pV {α : Type} {h0 h : Hp} {a ci j : Nat} {v : Value} {K : Hp → Option (α × Hp)} (e0 : hle h0 h) (k : ∀ h2, hle h0 h2 → Mo h0 (K h2)) : Mo h0 (pV h a ci j v K) := fun o q => by obtain ⟨_, -, -, -, e⟩ := pV_s q; exact k _ (hle_tr e0 hle_put) o e
theorem mo_sI {α : Type} {h0 h : Hp} {a kd : Nat} {i x : Int32} {K : Hp → Option (α × Hp)} (e0 : hle h0 h) (k : ∀ h2, hle h0 h2 → Mo h0 (K h2)) : Mo h0 (sI h a kd i x K) := fun o q => by obtain ⟨_, _, -, -, -, e⟩ := sI_s q; exact k _ (hle_tr e0 hle_put) o e
theorem mo_sQ {α : Type} {h0 h : Hp} {a kd : Nat} {i : Int32} {v : Nat} {K : Hp → Option (α × Hp)} (e0 : hle h0 h) (k : ∀ h2, hle h0 h2 → Mo h0 (K h2)) : Mo h0 (sQ h a kd i v K) := fun o q => by obtain ⟨_, _, _, _, -, -, -, -, -, -, e⟩ := sQ_s q; exact k _ (hle_tr e0 hle_put) o e
theorem mo_sN {α : Type} {h0 h : Hp} {a kd : Nat} {i : Int32} {K : Hp → Option (α × Hp)} (e0 : hle h0 h) (k : ∀ h2, hle h0 h2 → Mo h0 (K h2)) : Mo h0 (sN h a kd i K) := fun o q => by obtain ⟨_, _, -, -, -, -, e⟩ := sN_s q; exact k _ (hle_tr e0 hle_put) o e
theorem mo_sR {α : Type} {h0 h : Hp} {a : Nat} {i : Int32} {v : Nat} {K : Hp → Option (α × Hp)} (e0 : hle h0 h) (k : ∀ h2, hle h0 h2 → Mo h0 (K h2)) : Mo h0 (sR h a i v K) := fun o q => by obtain ⟨_, _, _, _, -, -, -, -, e⟩ := sR_s q; exact k _ (hle_tr e0 hle_put) o e
theorem mo_nW {α : Type} {h0 h : Hp} {ci : Nat} {fs : List Value} {n : Nat} {K : Nat → Hp → Option (α × Hp)} (e0 : hle h0 h) (k : ∀ a h2, hle h0 h2 → Mo h0 (K a h2)) : Mo h0 (nW h ci fs n K) := k _ _ (hle_tr e0 hle_new)
theorem mo_nA {α : Type} {h0 h : Hp} {kd : Nat} {n : Int32} {K : Nat → Hp → Option (α × Hp)} (e0 : hle h0 h) (k : ∀ a h2, hle h0 h2 → Mo h0 (K a h2)) : Mo h0 (nA h kd n K) := mo_gd (k _ _ (hle_tr e0 hle_new))
theorem mo_nQ {α : Type} {h0 h : Hp} {kd : Nat} {n : Int32} {K : Nat → Hp → Option (α × Hp)} (e0 : hle h0 h) (k : ∀ a h2, hle h0 h2 → Mo h0 (K a h2)) : Mo h0 (nQ h kd n K) := mo_gd (k _ _ (hle_tr e0 hle_new))
theorem mo_nM {α : Type} {h0 h : Hp} {n j : Int32} {K : Nat → Hp → Option (α × Hp)} (e0 : hle h0 h) (k : ∀ a h2, hle h0 h2 → Mo h0 (K a h2)) : Mo h0 (nM h n j K) := mo_gd (k _ _ (hle_tr e0 hle_mul))
theorem mo_bnd {α β : Type} {h0 h : Hp} {x : Option (β × Hp)} {f : β → Hp → Option (α × Hp)} (hx : Mo h x) (e0 : hle h0 h) (k : ∀ a h2, hle h0 h2 → Mo h0 (f a h2)) : Mo h0 (bnd x f) := fun o q => by obtain ⟨a, h2, e1, e2⟩ := bnd_s q; exact k a h2 (hle_tr e0 (hx _ e1)) o e2
theorem nW_s {β : Type} {h : Hp} {ci : Nat} {fs : List Value} {n : Nat} {K : Nat → Hp → Option β} {o : β} (e : nW h ci fs n K = some o) : ∃ a h2, a = hSz h ∧ h2 = hNew h (.inr (ci, fs)) n ∧ K a h2 = some o := ⟨_, _, rfl, rfl, e⟩
theorem nA_s {β : Type} {h : Hp} {kd : Nat} {n : Int32} {K : Nat → Hp → Option β} {o : β} (e : nA h kd n K = some o) : ∃ a h2, a = hSz h ∧ h2 = hNew h (.inl (kd, n.toNatClampNeg, .inl (fun _ => 0))) n.toNatClampNeg ∧ szB n = true ∧ K a h2 = some o := ⟨_, _, rfl, rfl, (gd_s e).1, (gd_s e).2⟩
theorem nQ_s {β : Type} {h : Hp} {kd : Nat} {n : Int32} {K : Nat → Hp → Option β} {o : β} (e : nQ h kd n K = some o) : ∃ a h2, a = hSz h ∧ h2 = hNew h (.inl (kd, n.toNatClampNeg, .inr (.inr (.inr (.inr (fun _ => none)))))) n.toNatClampNeg ∧ szB n = true ∧ K a h2 = some o := ⟨_, _, rfl, rfl, (gd_s e).1, (gd_s e).2⟩
theorem nM_s {β : Type} {h : Hp} {n k : Int32} {K : Nat → Hp → Option β} {o : β} (e : nM h n k K = some o) : ∃ a h2, a = hSz h ∧ h2 = hMul h n.toNatClampNeg k.toNatClampNeg ∧ szB n = true ∧ szB k = true ∧ K a h2 = some o := by
  obtain ⟨g, e⟩ := gd_s e
  rw [Bool.and_eq_true] at g
  exact ⟨_, _, rfl, rfl, g.1, g.2, e⟩
theorem oN_s {β : Type} {x : Option Nat} {K0 : Option β} {K : Nat → Option β} {o : β} (e : oN x K0 K = some o) : (x = none ∧ K0 = some o) ∨ ∃ b, x = some b ∧ K b = some o := by
  cases x with
  | none => exact Or.inl ⟨rfl, e⟩
  | some b => exact Or.inr ⟨b, rfl, e⟩
def cst (h0 : Hp) (c s : Nat) (h : Hp) : Prop := hCc h0 + c = hCc h ∧ hSl h0 + s = hSl h
theorem cst_0 {h : Hp} : cst h 0 0 h := ⟨rfl, rfl⟩
theorem cst_put {h0 h h2 : Hp} {c s a : Nat} {e : va_E} (hc : cst h0 c s h) (eh : h2 = hPut h a e) : cst h0 c s h2 := by subst eh; exact hc
theorem cst_new {h0 h h2 : Hp} {c s n : Nat} {e : va_E} (hc : cst h0 c s h) (eh : h2 = hNew h e n) : cst h0 (c + 1) (s + n) h2 := by
  subst eh
  obtain ⟨h1, h3⟩ := hc
  exact ⟨by show hCc h0 + (c + 1) = hCc h + 1; omega, by show hSl h0 + (s + n) = hSl h + n; omega⟩
theorem cst_mul {h0 h h2 : Hp} {c s n k : Nat} (hc : cst h0 c s h) (eh : h2 = hMul h n k) : cst h0 (c + 1 + n) (s + n + n * k) h2 := by
  subst eh
  obtain ⟨h1, h3⟩ := hc
  exact ⟨by show hCc h0 + (c + 1 + n) = hCc h + 1 + n; omega, by show hSl h0 + (s + n + n * k) = hSl h + n + n * k; omega⟩
theorem cst_call {h0 h u : Hp} {c s mc ms : Nat} (hc : cst h0 c s h) (e1 : hCc u = hCc h + mc) (e2 : hSl u = hSl h + ms) : cst h0 (c + mc) (s + ms) u := by
  obtain ⟨h1, h3⟩ := hc
  exact ⟨by omega, by omega⟩
theorem bud {h0 h2 h' : Hp} {c s mc ms : Nat} (hc : cst h0 c s h2) (hm : hle h2 h') (e1 : hCc h' = hCc h0 + mc) (e2 : hSl h' = hSl h0 + ms) : c ≤ mc ∧ s ≤ ms := by
  obtain ⟨h1, h3⟩ := hc
  obtain ⟨-, h4, h5⟩ := hm
  exact ⟨by omega, by omega⟩
theorem bud_m {h0 h2 h' : Hp} {c s n k mc ms : Nat} (hc : cst h0 (c + 1 + n) (s + n + n * k) h2) (hm : hle h2 h') (e1 : hCc h' = hCc h0 + mc) (e2 : hSl h' = hSl h0 + ms) : c + (1 + n) ≤ mc ∧ s + (n + n * k) ≤ ms := by
  obtain ⟨h1, h2⟩ := bud hc hm e1 e2
  exact ⟨by omega, by omega⟩
theorem bud_r {α : Type} {h0 h : Hp} {c s mc ms : Nat} {r : α} {o : α × Hp} (hc : cst h0 c s h) (hF : some (r, h) = some o) (e1 : hCc o.2 = hCc h0 + mc) (e2 : hSl o.2 = hSl h0 + ms) : c ≤ mc ∧ s ≤ ms := by
  cases hF
  exact bud hc hle_rf e1 e2
theorem up_of {h u : Hp} (hm : hle h u) : ∃ mc ms, hCc u = hCc h + mc ∧ hSl u = hSl h + ms := ⟨hCc u - hCc h, hSl u - hSl h, by have := hm.2.1; omega, by have := hm.2.2; omega⟩
theorem lw_fi {own : String} {idx : Nat} {C : String} {x y : MethodName} (h1 : Cond.methodLink own idx x ∈ lw_all) (h2 : Cond.selects C x y ∈ lw_all) (h3 : Cond.instanceMethod y ∈ lw_all) (h4 : Cond.initialized y.cls ∈ lw_all) : ∀ w ∈ ([.methodLink own idx x, .selects C x y, .instanceMethod y, .initialized y.cls] : List Cond), w ∈ lw_all := by
  intro w hw
  simp only [List.mem_cons, List.not_mem_nil, or_false] at hw
  rcases hw with e | e | e | e
  · rw [e]; exact h1
  · rw [e]; exact h2
  · rw [e]; exact h3
  · rw [e]; exact h4
theorem zb_fit {y : Int32} (h : zbB y = true) : fits .boolean (.int y) = true := by
  simp only [zbB, Bool.or_eq_true, decide_eq_true_eq] at h
  rcases h with rfl | rfl <;> rfl
def byB (y : Int32) : Bool := decide (narrow .byte (.int y) = .int y) && fits .byte (.int y)
def chB (y : Int32) : Bool := decide (narrow .char (.int y) = .int y)
theorem by_of {y : Int32} (h : byB y = true) : narrow .byte (.int y) = .int y := by
  simp only [byB, Bool.and_eq_true, decide_eq_true_eq] at h
  exact h.1
theorem by_fit {y : Int32} (h : byB y = true) : fits .byte (.int y) = true := by
  simp only [byB, Bool.and_eq_true, decide_eq_true_eq] at h
  exact h.2
theorem ch_of {y : Int32} (h : chB y = true) : narrow .char (.int y) = .int y := of_decide_eq_true h
theorem h_pre {D : HD} {A : Nat → Prop} {h : Hp} {s : State} {H : Heap} {locs : List Loc} (hGr : hG D A s s.heap) (hr : hR D A h H) (hS : va_S A s.heap H locs) : ∀ U : State, U.heap = H → s.WarmedH U.vm → hW D A h U := fun U hU hWm => ⟨by rw [hU]; exact hr, hGr.moved hWm (by rw [hU]; exact hS.2.1)⟩
theorem h_blind {D : HD} {A : Nat → Prop} {h : Hp} {As : List Value} : FrameBlind (va_Pc As (hW D A h)) := fun a U g mk q => ⟨q.1, q.2.1, hG.moved (s := U) (U := U.calling g mk a) q.2.2 (State.WarmedH.refl U) (fun _ _ _ => rfl)⟩
theorem h_preV {D : HD} {A : Nat → Prop} {h : Hp} {s : State} {H : Heap} {locs : List Loc} (hGr : hG D A s s.heap) (hr : hR D A h H) (hS : va_S A s.heap H locs) {b ci : Nat} {fs : List Value} (he : h.1 b = some (.inr (ci, fs))) (hci : ci < 100) {q : vw_C} (hc : vwCl[ci]? = some q) (As : List Value) : PreV s H q.1 b (va_Pc (.ref b :: As) (hW D A h)) As :=
  ⟨h_blind, va_recv (q0 := 0) hGr.K (va_P1 (hr.at_o he hci)) hc rfl, fun U hU hWm => ⟨rfl, h_pre hGr hr hS U hU hWm⟩⟩
theorem h_preS {D : HD} {A : Nat → Prop} {h : Hp} {s : State} {H : Heap} {locs : List Loc} (hGr : hG D A s s.heap) (hr : hR D A h H) (hS : va_S A s.heap H locs) (As : List Value) : PreS s H (va_Pc As (hW D A h)) As :=
  ⟨h_blind, fun U hU hWm => ⟨rfl, h_pre hGr hr hS U hU hWm⟩⟩
theorem h_end {D : HD} {A : Nat → Prop} {h : Hp} {s t : State} {H : Heap} {locs : List Loc} (hGr : hG D A s s.heap) (hr : hR D A h H) (hS : va_S A s.heap H locs) (ht : t.heap = H) (hWm : s.WarmedH t.vm) : hW D A h t := h_pre hGr hr hS t ht hWm
theorem h_cast {p : Program} {l : Launch} {e : Env} {R : Room} {s : State} {m : MethodId} {args : Array Value} {below : List Frame} {meth : Method} {c : Code} {H : Heap} {locs : List Loc} {cells slots : Nat} {Q : State → Prop} {cc : ByteArray} {pc : Nat} {ls : Array Slot} {rest : List Value} {D : HD} {A : Nat → Prop} {a : Nat} {h : Hp} (hexec : p.tables.exec = Jvm.exec) (hb : c.code = cc) {own nm : String} {index : Nat} (hown : s.vm.findClass own = some m.cls) (hlink : (Cond.classLink own index nm).before args s = true) (hGr : hG D A s s.heap) (hr : hR D A h H) {ci : Nat} {fs : List Value} (he : h.1 a = some (.inr (ci, fs))) (hci : ci < 100) {T : u_T} {N : Nat} (hc : vwCl[ci]? = some (nm, T, N)) (hdg : decode cc pc = .ok (.checkcast index, 3))
    (k : W p l e R s m args below meth c H locs cells slots Q (F0 m (pc + 3) ls (.ref a :: rest))) : W p l e R s m args below meth c H locs cells slots Q (F0 m pc ls (.ref a :: rest)) :=
  va_castS hexec hb hown hlink (hGr.K.1 ci _ hc).2 (va_recv (q0 := 0) hGr.K (va_P1 (hr.at_o he hci)) hc rfl) hdg k
theorem h_calli {p : Program} {l : Launch} {e : Env} {R : Room} {s : State} {m : MethodId} {args : Array Value} {below : List Frame} {meth : Method} {c : Code} {H : Heap} {locs : List Loc} {cells slots : Nat} {Q : State → Prop} {pc : Nat} {ls : Array Slot} {rest st0 : List Value} {a : Array Value} {A : Nat → Prop} {H0 : Heap} {D : HD} {mc ms : Nat} {post : Int32 → Hp → Prop} (hr0 : va_Run p l e R s m args below meth c H locs cells slots mc ms (F0 m pc ls st0) rest (va_Qi post (hW D A) A a) A) (hS : va_S A H0 H locs)
    (kk : ∀ (r : Int32) (u : Hp) (H1 : Heap) (locs1 : List Loc), post r u → hR D A u H1 → va_S A H0 H1 locs1 → W p l e R s m args below meth c H1 locs1 (cells + mc) (slots + ms) Q (F0 m (pc + 3) ls (.int r :: rest))) : W p l e R s m args below meth c H locs cells slots Q (F0 m pc ls st0) :=
  va_calli hr0 hS (fun _ _ h => h) (fun _ h => h) (fun r u t H1 locs1 ht hvm hw hB hz hk hS1 => kk r u H1 locs1 hw (by rw [← ht]; exact hB.1) hS1)
theorem h_calll {p : Program} {l : Launch} {e : Env} {R : Room} {s : State} {m : MethodId} {args : Array Value} {below : List Frame} {meth : Method} {c : Code} {H : Heap} {locs : List Loc} {cells slots : Nat} {Q : State → Prop} {pc : Nat} {ls : Array Slot} {rest st0 : List Value} {a : Array Value} {A : Nat → Prop} {H0 : Heap} {D : HD} {mc ms : Nat} {post : Int64 → Hp → Prop} (hr0 : va_Run p l e R s m args below meth c H locs cells slots mc ms (F0 m pc ls st0) rest (va_Ql post (hW D A) A a) A) (hS : va_S A H0 H locs)
    (kk : ∀ (r : Int64) (u : Hp) (H1 : Heap) (locs1 : List Loc), post r u → hR D A u H1 → va_S A H0 H1 locs1 → W p l e R s m args below meth c H1 locs1 (cells + mc) (slots + ms) Q (F0 m (pc + 3) ls (.long r :: rest))) : W p l e R s m args below meth c H locs cells slots Q (F0 m pc ls st0) :=
  va_calll hr0 hS (fun _ _ h => h) (fun _ h => h) (fun r u t H1 locs1 ht hvm hw hB hz hk hS1 => kk r u H1 locs1 hw (by rw [← ht]; exact hB.1) hS1)
theorem h_callf {p : Program} {l : Launch} {e : Env} {R : Room} {s : State} {m : MethodId} {args : Array Value} {below : List Frame} {meth : Method} {c : Code} {H : Heap} {locs : List Loc} {cells slots : Nat} {Q : State → Prop} {pc : Nat} {ls : Array Slot} {rest st0 : List Value} {a : Array Value} {A : Nat → Prop} {H0 : Heap} {D : HD} {mc ms : Nat} {post : UInt32 → Hp → Prop} (hr0 : va_Run p l e R s m args below meth c H locs cells slots mc ms (F0 m pc ls st0) rest (va_Qf post (hW D A) A a) A) (hS : va_S A H0 H locs)
    (kk : ∀ (r : UInt32) (u : Hp) (H1 : Heap) (locs1 : List Loc), post r u → hR D A u H1 → va_S A H0 H1 locs1 → W p l e R s m args below meth c H1 locs1 (cells + mc) (slots + ms) Q (F0 m (pc + 3) ls (.float r :: rest))) : W p l e R s m args below meth c H locs cells slots Q (F0 m pc ls st0) :=
  va_callf hr0 hS (fun _ _ h => h) (fun _ h => h) (fun r u t H1 locs1 ht hvm hw hB hz hk hS1 => kk r u H1 locs1 hw (by rw [← ht]; exact hB.1) hS1)
theorem h_callv {p : Program} {l : Launch} {e : Env} {R : Room} {s : State} {m : MethodId} {args : Array Value} {below : List Frame} {meth : Method} {c : Code} {H : Heap} {locs : List Loc} {cells slots : Nat} {Q : State → Prop} {pc : Nat} {ls : Array Slot} {rest st0 : List Value} {a : Array Value} {A : Nat → Prop} {H0 : Heap} {D : HD} {mc ms : Nat} {post : Hp → Prop} (hr0 : va_Run p l e R s m args below meth c H locs cells slots mc ms (F0 m pc ls st0) rest (va_Qv post (hW D A) A a) A) (hS : va_S A H0 H locs)
    (kk : ∀ (u : Hp) (H1 : Heap) (locs1 : List Loc), post u → hR D A u H1 → va_S A H0 H1 locs1 → W p l e R s m args below meth c H1 locs1 (cells + mc) (slots + ms) Q (F0 m (pc + 3) ls (rest))) : W p l e R s m args below meth c H locs cells slots Q (F0 m pc ls st0) :=
  va_callv hr0 hS (fun _ _ h => h) (fun _ h => h) (fun u t H1 locs1 ht hvm hw hB hz hk hS1 => kk u H1 locs1 hw (by rw [← ht]; exact hB.1) hS1)
theorem h_callr {p : Program} {l : Launch} {e : Env} {R : Room} {s : State} {m : MethodId} {args : Array Value} {below : List Frame} {meth : Method} {c : Code} {H : Heap} {locs : List Loc} {cells slots : Nat} {Q : State → Prop} {pc : Nat} {ls : Array Slot} {rest st0 : List Value} {a : Array Value} {A : Nat → Prop} {H0 : Heap} {D : HD} {mc ms : Nat} {post : Nat → Hp → Prop} (hr0 : va_Run p l e R s m args below meth c H locs cells slots mc ms (F0 m pc ls st0) rest (va_Qr (fun _ : Hp => True) (fun u r t => post r u ∧ hW D A u t) A a) A) (hS : va_S A H0 H locs)
    (kk : ∀ (r : Nat) (u : Hp) (H1 : Heap) (locs1 : List Loc), post r u → hR D A u H1 → va_S A H0 H1 locs1 → W p l e R s m args below meth c H1 locs1 (cells + mc) (slots + ms) Q (F0 m (pc + 3) ls (.ref r :: rest))) : W p l e R s m args below meth c H locs cells slots Q (F0 m pc ls st0) :=
  va_callr hr0 hS (fun _ _ h => h) (fun _ h => h) (fun u r t H1 locs1 ht hvm hw hB hz hk hS1 => kk r u H1 locs1 hB.1 (by rw [← ht]; exact hB.2.1) hS1)
theorem h_callq {p : Program} {l : Launch} {e : Env} {R : Room} {s : State} {m : MethodId} {args : Array Value} {below : List Frame} {meth : Method} {c : Code} {H : Heap} {locs : List Loc} {cells slots : Nat} {Q : State → Prop} {pc : Nat} {ls : Array Slot} {rest st0 : List Value} {a : Array Value} {A : Nat → Prop} {H0 : Heap} {D : HD} {mc ms : Nat} {post : Option Nat → Hp → Prop} (hr0 : va_Run p l e R s m args below meth c H locs cells slots mc ms (F0 m pc ls st0) rest (va_Qq post (hW D A) A a) A) (hS : va_S A H0 H locs)
    (kk : ∀ (r : Option Nat) (u : Hp) (H1 : Heap) (locs1 : List Loc), post r u → hR D A u H1 → va_S A H0 H1 locs1 → W p l e R s m args below meth c H1 locs1 (cells + mc) (slots + ms) Q (F0 m (pc + 3) ls (va_rf r :: rest))) : W p l e R s m args below meth c H locs cells slots Q (F0 m pc ls st0) :=
  va_callq hr0 hS (fun _ _ h => h) (fun _ h => h) (fun r u t H1 locs1 ht hvm hw hB hz hk hS1 => kk r u H1 locs1 hw (by rw [← ht]; exact hB.1) hS1)
theorem h_callFi {p : Program} {l : Launch} {e : Env} {R : Room} {s : State} {m : MethodId} {args : Array Value} {below : List Frame} {meth : Method} {c : Code} {H : Heap} {locs : List Loc} {cells slots : Nat} {Q : State → Prop} {pc : Nat} {ls : Array Slot} {rest st0 : List Value} {a : Array Value} {A : Nat → Prop} {H0 : Heap} {D : HD} {mc ms : Nat} {post : Int32 → Hp → Prop} (hr0 : va_Run5 p l e R s m args below meth c H locs cells slots mc ms (F0 m pc ls st0) rest (va_Qi post (hW D A) A a) A) (hS : va_S A H0 H locs)
    (kk : ∀ (r : Int32) (u : Hp) (H1 : Heap) (locs1 : List Loc), post r u → hR D A u H1 → va_S A H0 H1 locs1 → W p l e R s m args below meth c H1 locs1 (cells + mc) (slots + ms) Q (F0 m (pc + 5) ls (.int r :: rest))) : W p l e R s m args below meth c H locs cells slots Q (F0 m pc ls st0) :=
  va_callFi hr0 hS (fun _ _ h => h) (fun _ h => h) (fun r u t H1 locs1 ht hvm hw hB hz hk hS1 => kk r u H1 locs1 hw (by rw [← ht]; exact hB.1) hS1)
theorem h_callFv {p : Program} {l : Launch} {e : Env} {R : Room} {s : State} {m : MethodId} {args : Array Value} {below : List Frame} {meth : Method} {c : Code} {H : Heap} {locs : List Loc} {cells slots : Nat} {Q : State → Prop} {pc : Nat} {ls : Array Slot} {rest st0 : List Value} {a : Array Value} {A : Nat → Prop} {H0 : Heap} {D : HD} {mc ms : Nat} {post : Hp → Prop} (hr0 : va_Run5 p l e R s m args below meth c H locs cells slots mc ms (F0 m pc ls st0) rest (va_Qv post (hW D A) A a) A) (hS : va_S A H0 H locs)
    (kk : ∀ (u : Hp) (H1 : Heap) (locs1 : List Loc), post u → hR D A u H1 → va_S A H0 H1 locs1 → W p l e R s m args below meth c H1 locs1 (cells + mc) (slots + ms) Q (F0 m (pc + 5) ls (rest))) : W p l e R s m args below meth c H locs cells slots Q (F0 m pc ls st0) :=
  va_callFv hr0 hS (fun _ _ h => h) (fun _ h => h) (fun u t H1 locs1 ht hvm hw hB hz hk hS1 => kk u H1 locs1 hw (by rw [← ht]; exact hB.1) hS1)
theorem h_callFr {p : Program} {l : Launch} {e : Env} {R : Room} {s : State} {m : MethodId} {args : Array Value} {below : List Frame} {meth : Method} {c : Code} {H : Heap} {locs : List Loc} {cells slots : Nat} {Q : State → Prop} {pc : Nat} {ls : Array Slot} {rest st0 : List Value} {a : Array Value} {A : Nat → Prop} {H0 : Heap} {D : HD} {mc ms : Nat} {post : Nat → Hp → Prop} (hr0 : va_Run5 p l e R s m args below meth c H locs cells slots mc ms (F0 m pc ls st0) rest (va_Qr (fun _ : Hp => True) (fun u r t => post r u ∧ hW D A u t) A a) A) (hS : va_S A H0 H locs)
    (kk : ∀ (r : Nat) (u : Hp) (H1 : Heap) (locs1 : List Loc), post r u → hR D A u H1 → va_S A H0 H1 locs1 → W p l e R s m args below meth c H1 locs1 (cells + mc) (slots + ms) Q (F0 m (pc + 5) ls (.ref r :: rest))) : W p l e R s m args below meth c H locs cells slots Q (F0 m pc ls st0) :=
  va_callFr hr0 hS (fun _ _ h => h) (fun _ h => h) (fun u r t H1 locs1 ht hvm hw hB hz hk hS1 => kk r u H1 locs1 hB.1 (by rw [← ht]; exact hB.2.1) hS1)
theorem h_callFq {p : Program} {l : Launch} {e : Env} {R : Room} {s : State} {m : MethodId} {args : Array Value} {below : List Frame} {meth : Method} {c : Code} {H : Heap} {locs : List Loc} {cells slots : Nat} {Q : State → Prop} {pc : Nat} {ls : Array Slot} {rest st0 : List Value} {a : Array Value} {A : Nat → Prop} {H0 : Heap} {D : HD} {mc ms : Nat} {post : Option Nat → Hp → Prop} (hr0 : va_Run5 p l e R s m args below meth c H locs cells slots mc ms (F0 m pc ls st0) rest (va_Qq post (hW D A) A a) A) (hS : va_S A H0 H locs)
    (kk : ∀ (r : Option Nat) (u : Hp) (H1 : Heap) (locs1 : List Loc), post r u → hR D A u H1 → va_S A H0 H1 locs1 → W p l e R s m args below meth c H1 locs1 (cells + mc) (slots + ms) Q (F0 m (pc + 5) ls (va_rf r :: rest))) : W p l e R s m args below meth c H locs cells slots Q (F0 m pc ls st0) :=
  va_callFq hr0 hS (fun _ _ h => h) (fun _ h => h) (fun r u t H1 locs1 ht hvm hw hB hz hk hS1 => kk r u H1 locs1 hw (by rw [← ht]; exact hB.1) hS1)
theorem fw_0 {D : HD} {A : Nat → Prop} {U : State} {H : Heap} (h : hG D A U H) : va_Fw RJ17 ⟨"java/util/Collection", "toArray", "()[Ljava/lang/Object;"⟩ yJ17_toArray U := h.fw ("java/util/ArrayDeque", ⟨"java/util/Collection", "toArray", "()[Ljava/lang/Object;"⟩, ⟨"java/util/ArrayDeque", "toArray", "()[Ljava/lang/Object;"⟩) (List.mem_of_getElem? (i := 0) rfl)
theorem fw_1 {D : HD} {A : Nat → Prop} {U : State} {H : Heap} (h : hG D A U H) : va_Fw RJ2 ⟨"java/util/Collection", "toArray", "()[Ljava/lang/Object;"⟩ yJ2_toArray U := h.fw ("java/util/ArrayList", ⟨"java/util/Collection", "toArray", "()[Ljava/lang/Object;"⟩, ⟨"java/util/ArrayList", "toArray", "()[Ljava/lang/Object;"⟩) (List.mem_of_getElem? (i := 1) rfl)
theorem fw_2 {D : HD} {A : Nat → Prop} {U : State} {H : Heap} (h : hG D A U H) : va_Fw RJ2 ⟨"java/util/List", "addAll", "(Ljava/util/Collection;)Z"⟩ yJ2_addAll U := h.fw ("java/util/ArrayList", ⟨"java/util/List", "addAll", "(Ljava/util/Collection;)Z"⟩, ⟨"java/util/ArrayList", "addAll", "(Ljava/util/Collection;)Z"⟩) (List.mem_of_getElem? (i := 2) rfl)
theorem fw_3 {D : HD} {A : Nat → Prop} {U : State} {H : Heap} (h : hG D A U H) : va_Fw RJ2 ⟨"java/util/List", "clear", "()V"⟩ yJ2_clear U := h.fw ("java/util/ArrayList", ⟨"java/util/List", "clear", "()V"⟩, ⟨"java/util/ArrayList", "clear", "()V"⟩) (List.mem_of_getElem? (i := 3) rfl)
theorem fw_4 {D : HD} {A : Nat → Prop} {U : State} {H : Heap} (h : hG D A U H) : va_Fw RJ2 ⟨"java/util/List", "isEmpty", "()Z"⟩ yJ2_isEmpty U := h.fw ("java/util/ArrayList", ⟨"java/util/List", "isEmpty", "()Z"⟩, ⟨"java/util/ArrayList", "isEmpty", "()Z"⟩) (List.mem_of_getElem? (i := 4) rfl)
theorem fw_5 {D : HD} {A : Nat → Prop} {U : State} {H : Heap} (h : hG D A U H) : va_Fw RJ2 ⟨"java/util/List", "size", "()I"⟩ yJ2_size U := h.fw ("java/util/ArrayList", ⟨"java/util/List", "size", "()I"⟩, ⟨"java/util/ArrayList", "size", "()I"⟩) (List.mem_of_getElem? (i := 5) rfl)
theorem fw_6 {D : HD} {A : Nat → Prop} {U : State} {H : Heap} (h : hG D A U H) : va_Fw RJ2 ⟨"java/util/List", "add", "(Ljava/lang/Object;)Z"⟩ yJ2_add U := h.fw ("java/util/ArrayList", ⟨"java/util/List", "add", "(Ljava/lang/Object;)Z"⟩, ⟨"java/util/ArrayList", "add", "(Ljava/lang/Object;)Z"⟩) (List.mem_of_getElem? (i := 6) rfl)
theorem fw_7 {D : HD} {A : Nat → Prop} {U : State} {H : Heap} (h : hG D A U H) : va_Fw RJ2 ⟨"java/util/List", "get", "(I)Ljava/lang/Object;"⟩ yJ2_get U := h.fw ("java/util/ArrayList", ⟨"java/util/List", "get", "(I)Ljava/lang/Object;"⟩, ⟨"java/util/ArrayList", "get", "(I)Ljava/lang/Object;"⟩) (List.mem_of_getElem? (i := 7) rfl)
theorem fw_8 {D : HD} {A : Nat → Prop} {U : State} {H : Heap} (h : hG D A U H) : va_Fw RJ2 ⟨"java/util/List", "set", "(ILjava/lang/Object;)Ljava/lang/Object;"⟩ yJ2_set U := h.fw ("java/util/ArrayList", ⟨"java/util/List", "set", "(ILjava/lang/Object;)Ljava/lang/Object;"⟩, ⟨"java/util/ArrayList", "set", "(ILjava/lang/Object;)Ljava/lang/Object;"⟩) (List.mem_of_getElem? (i := 8) rfl)
