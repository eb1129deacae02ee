/-! words of the pure functions over the abstract heap (each reads or writes one cell; none: the case is not covered), and what their success says -/
def gI {β : Type} (h : Hp) (a ci k : Nat) (K : Int32 → Option β) : Option β := match h.1 a with
  | some (.inr (c, fs)) => if c = ci then (match fs[k]? with | some (.int x) => K x | _ => none) else none
  | _ => none
theorem gI_s {β : Type} {h : Hp} {a ci k : Nat} {K : Int32 → Option β} {o : β} (e : gI h a ci k K = some o) : ∃ fs x, h.1 a = some (.inr (ci, fs)) ∧ fs[k]? = some (.int x) ∧ K x = some o := by
  unfold gI at e
  split at e
  · next c fs h1 =>
    split at e
    · next hc =>
      subst hc
      split at e
      · next x hx => exact ⟨fs, x, h1, hx, e⟩
      · cases e
    · cases e
  · cases e
def gQ {β : Type} (h : Hp) (a ci k : Nat) (K : Nat → Option β) : Option β := match h.1 a with
  | some (.inr (c, fs)) => if c = ci then (match fs[k]? with | some (.ref x) => K x | _ => none) else none
  | _ => none
theorem gQ_s {β : Type} {h : Hp} {a ci k : Nat} {K : Nat → Option β} {o : β} (e : gQ h a ci k K = some o) : ∃ fs x, h.1 a = some (.inr (ci, fs)) ∧ fs[k]? = some (.ref x) ∧ K x = some o := by
  unfold gQ at e
  split at e
  · next c fs h1 =>
    split at e
    · next hc =>
      subst hc
      split at e
      · next x hx => exact ⟨fs, x, h1, hx, e⟩
      · cases e
    · cases e
  · cases e
def pV {β : Type} (h : Hp) (a ci k : Nat) (v : Value) (K : Hp → Option β) : Option β := match h.1 a with
  | some (.inr (c, fs)) => if c = ci ∧ k < fs.length ∧ hLo h ≤ a then K (hPut h a (.inr (ci, fs.set k v))) else none
  | _ => none
theorem pV_s {β : Type} {h : Hp} {a ci k : Nat} {v : Value} {K : Hp → Option β} {o : β} (e : pV h a ci k v K = some o) : ∃ fs, h.1 a = some (.inr (ci, fs)) ∧ k < fs.length ∧ hLo h ≤ a ∧ K (hPut h a (.inr (ci, fs.set k v))) = some o := by
  unfold pV at e
  split at e
  · next c fs h1 =>
    split at e
    · next hc =>
      obtain ⟨rfl, h2, h3⟩ := hc
      exact ⟨fs, h1, h2, h3, e⟩
    · cases e
  · cases e
/-- the cell's class -/
def gC {β : Type} (h : Hp) (a ci : Nat) (K : Option β) : Option β := match h.1 a with
  | some (.inr (c, _)) => if c = ci then K else none
  | _ => none
theorem gC_s {β : Type} {h : Hp} {a ci : Nat} {K : Option β} {o : β} (e : gC h a ci K = some o) : ∃ fs, h.1 a = some (.inr (ci, fs)) ∧ K = some o := by
  unfold gC at e
  split at e
  · next c fs h1 =>
    split at e
    · next hc => subst hc; exact ⟨fs, h1, e⟩
    · cases e
  · cases e
def aI {β : Type} (h : Hp) (a kd : Nat) (i : Int32) (K : Int32 → Option β) : Option β := match h.1 a with
  | some (.inl (k', n, .inl f)) => if k' = kd then gd (inB i n) (K (f i.toNatClampNeg)) else none
  | _ => none
theorem aI_s {β : Type} {h : Hp} {a kd : Nat} {i : Int32} {K : Int32 → Option β} {o : β} (e : aI h a kd i K = some o) : ∃ n f, h.1 a = some (.inl (kd, n, .inl f)) ∧ inB i n = true ∧ K (f i.toNatClampNeg) = some o := by
  unfold aI at e
  split at e
  · next k' n f h1 =>
    split at e
    · next hc => subst hc; obtain ⟨g, e⟩ := gd_s e; exact ⟨n, f, h1, g, e⟩
    · cases e
  · cases e
def aQ {β : Type} (h : Hp) (a kd : Nat) (i : Int32) (K : Nat → Option β) : Option β := match h.1 a with
  | some (.inl (k', n, .inr (.inr (.inr (.inr f))))) => if k' = kd then gd (inB i n) (match f i.toNatClampNeg with | some b => K b | none => none) else none
  | _ => none
theorem aQ_s {β : Type} {h : Hp} {a kd : Nat} {i : Int32} {K : Nat → Option β} {o : β} (e : aQ h a kd i K = some o) : ∃ n f b, h.1 a = some (.inl (kd, n, .inr (.inr (.inr (.inr f))))) ∧ inB i n = true ∧ f i.toNatClampNeg = some b ∧ K b = some o := by
  unfold aQ at e
  split at e
  · next k' n f h1 =>
    split at e
    · next hc =>
      subst hc
      obtain ⟨g, e⟩ := gd_s e
      split at e
      · next b hb => exact ⟨n, f, b, h1, g, hb, e⟩
      · cases e
    · cases e
  · cases e
def aO {β : Type} (h : Hp) (a kd : Nat) (i : Int32) (K : Option Nat → Option β) : Option β := match h.1 a with
  | some (.inl (k', n, .inr (.inr (.inr (.inr f))))) => if k' = kd then gd (inB i n) (K (f i.toNatClampNeg)) else none
  | _ => none
theorem aO_s {β : Type} {h : Hp} {a kd : Nat} {i : Int32} {K : Option Nat → Option β} {o : β} (e : aO h a kd i K = some o) : ∃ n f, h.1 a = some (.inl (kd, n, .inr (.inr (.inr (.inr f))))) ∧ inB i n = true ∧ K (f i.toNatClampNeg) = some o := by
  unfold aO at e
  split at e
  · next k' n f h1 =>
    split at e
    · next hc => subst hc; obtain ⟨g, e⟩ := gd_s e; exact ⟨n, f, h1, g, e⟩
    · cases e
  · cases e
/-- a reference that is none or some -/
def oN {β : Type} (x : Option Nat) (K0 : Option β) (K : Nat → Option β) : Option β := match x with
  | none => K0
  | some b => K b
def aL {β : Type} (h : Hp) (a : Nat) (K : Int32 → Option β) : Option β := match h.1 a with
  | some (.inl (k', x)) => if k' < 6 then K (Int32.ofNat x.1) else none
  | _ => none
theorem aL_s {β : Type} {h : Hp} {a : Nat} {K : Int32 → Option β} {o : β} (e : aL h a K = some o) : ∃ k' x, h.1 a = some (.inl (k', x)) ∧ k' < 6 ∧ K (Int32.ofNat x.1) = some o := by
  unfold aL at e
  split at e
  · next k' x h1 =>
    split at e
    · next hc => exact ⟨k', x, h1, hc, e⟩
    · cases e
  · cases e
def sI {β : Type} (h : Hp) (a kd : Nat) (i x : Int32) (K : Hp → Option β) : Option β := match h.1 a with
  | some (.inl (k', n, .inl f)) => if k' = kd ∧ hLo h ≤ a then gd (inB i n) (K (hPut h a (.inl (kd, n, .inl (upd f i.toNatClampNeg x))))) else none
  | _ => none
theorem sI_s {β : Type} {h : Hp} {a kd : Nat} {i x : Int32} {K : Hp → Option β} {o : β} (e : sI h a kd i x K = some o) : ∃ n f, h.1 a = some (.inl (kd, n, .inl f)) ∧ hLo h ≤ a ∧ inB i n = true ∧ K (hPut h a (.inl (kd, n, .inl (upd f i.toNatClampNeg x)))) = some o := by
  unfold sI at e
  split at e
  · next k' n f h1 =>
    split at e
    · next hc => obtain ⟨rfl, h2⟩ := hc; obtain ⟨g, e⟩ := gd_s e; exact ⟨n, f, h1, h2, g, e⟩
    · cases e
  · cases e
def okO (ci : Nat) : Bool := ci == 2 || ci == 7 || ci == 8
/-- a reference, or null, into an array of references: v's class is one that fits -/
def sQ {β : Type} (h : Hp) (a kd : Nat) (i : Int32) (v : Nat) (K : Hp → Option β) : Option β := match h.1 a, h.1 v with
  | some (.inl (k', n, .inr (.inr (.inr (.inr f))))), some (.inr (cv, _)) => if k' = kd ∧ hLo h ≤ a ∧ okO cv = true ∧ (kd = 2 ∨ (kd = 3 ∧ cv = 2)) then gd (inB i n) (K (hPut h a (.inl (kd, n, .inr (.inr (.inr (.inr (va_up f i.toNatClampNeg (some v))))))))) else none
  | _, _ => none
theorem sQ_s {β : Type} {h : Hp} {a kd : Nat} {i : Int32} {v : Nat} {K : Hp → Option β} {o : β} (e : sQ h a kd i v K = some o) : ∃ n f cv fv, h.1 a = some (.inl (kd, n, .inr (.inr (.inr (.inr f))))) ∧ h.1 v = some (.inr (cv, fv)) ∧ hLo h ≤ a ∧ okO cv = true ∧ (kd = 2 ∨ (kd = 3 ∧ cv = 2)) ∧ inB i n = true ∧ K (hPut h a (.inl (kd, n, .inr (.inr (.inr (.inr (va_up f i.toNatClampNeg (some v)))))))) = some o := by
  unfold sQ at e
  split at e
  · next k' n f cv fv h1 h2 =>
    split at e
    · next hc => obtain ⟨rfl, h3, h4, h5⟩ := hc; obtain ⟨g, e⟩ := gd_s e; exact ⟨n, f, cv, fv, h1, h2, h3, h4, h5, g, e⟩
    · cases e
  · cases e
def sN {β : Type} (h : Hp) (a kd : Nat) (i : Int32) (K : Hp → Option β) : Option β := match h.1 a with
  | some (.inl (k', n, .inr (.inr (.inr (.inr f))))) => if k' = kd ∧ hLo h ≤ a ∧ (kd = 2 ∨ kd = 3) then gd (inB i n) (K (hPut h a (.inl (kd, n, .inr (.inr (.inr (.inr (va_up f i.toNatClampNeg none)))))))) else none
  | _ => none
theorem sN_s {β : Type} {h : Hp} {a kd : Nat} {i : Int32} {K : Hp → Option β} {o : β} (e : sN h a kd i K = some o) : ∃ n f, h.1 a = some (.inl (kd, n, .inr (.inr (.inr (.inr f))))) ∧ hLo h ≤ a ∧ (kd = 2 ∨ kd = 3) ∧ inB i n = true ∧ K (hPut h a (.inl (kd, n, .inr (.inr (.inr (.inr (va_up f i.toNatClampNeg none))))))) = some o := by
  unfold sN at e
  split at e
  · next k' n f h1 =>
    split at e
    · next hc => obtain ⟨rfl, h3, h4⟩ := hc; obtain ⟨g, e⟩ := gd_s e; exact ⟨n, f, h1, h3, h4, g, e⟩
    · cases e
  · cases e
/-- a row of ints into an array of rows -/
def sR {β : Type} (h : Hp) (a : Nat) (i : Int32) (v : Nat) (K : Hp → Option β) : Option β := match h.1 a, h.1 v with
  | some (.inl (k', n, .inr (.inr (.inr (.inr f))))), some (.inl (kv, nv, .inl fv)) => if k' = 4 ∧ hLo h ≤ a ∧ kv = 0 then gd (inB i n) (K (hPut h a (.inl (4, n, .inr (.inr (.inr (.inr (va_up f i.toNatClampNeg (some v))))))))) else none
  | _, _ => none
theorem sR_s {β : Type} {h : Hp} {a : Nat} {i : Int32} {v : Nat} {K : Hp → Option β} {o : β} (e : sR h a i v K = some o) : ∃ n f nv fv, h.1 a = some (.inl (4, n, .inr (.inr (.inr (.inr f))))) ∧ h.1 v = some (.inl (0, nv, .inl fv)) ∧ hLo h ≤ a ∧ inB i n = true ∧ K (hPut h a (.inl (4, n, .inr (.inr (.inr (.inr (va_up f i.toNatClampNeg (some v)))))))) = some o := by
  unfold sR at e
  split at e
  · next k' n f kv nv fv h1 h2 =>
    split at e
    · next hc => obtain ⟨rfl, h3, rfl⟩ := hc; obtain ⟨g, e⟩ := gd_s e; exact ⟨n, f, nv, fv, h1, h2, h3, g, e⟩
    · cases e
  · cases e
def nW {β : Type} (h : Hp) (ci : Nat) (fs : List Value) (n : Nat) (K : Nat → Hp → Option β) : Option β := K (hSz h) (hNew h (.inr (ci, fs)) n)
def szB (n : Int32) : Bool := !(decide (n < 0)) && decide (n.toNatClampNeg ≤ 65536)
def nA {β : Type} (h : Hp) (kd : Nat) (n : Int32) (K : Nat → Hp → Option β) : Option β := gd (szB n) (K (hSz h) (hNew h (.inl (kd, n.toNatClampNeg, .inl (fun _ => 0))) n.toNatClampNeg))
def nQ {β : Type} (h : Hp) (kd : Nat) (n : Int32) (K : Nat → Hp → Option β) : Option β := gd (szB n) (K (hSz h) (hNew h (.inl (kd, n.toNatClampNeg, .inr (.inr (.inr (.inr (fun _ => none)))))) n.toNatClampNeg))
theorem szB_s {n : Int32} (h : szB n = true) : ¬ n < 0 ∧ n.toNatClampNeg ≤ 65536 := by
  simp only [szB, Bool.and_eq_true, Bool.not_eq_true', decide_eq_false_iff_not, decide_eq_true_eq] at h
  exact h
/-! the heap below: one cell written, one made -/
theorem va_P1 {D : va_G} {cl : List vw_C} {q : Nat × va_E} {H : Heap} (h : va_at D cl q H) : va_P D cl [q] H := by
  intro k x hx
  match k, hx with
  | 0, hx => cases hx; exact h
theorem va_asg_self (vm : Vm) (c : ClassId) : vm.assignable c c = true := by rw [Vm.assignable, Vm.assignableAux, beq_self_eq_true, Bool.true_or]
theorem hR.at_o {D : HD} {A : Nat → Prop} {h : Hp} {H : Heap} (hr : hR D A h H) {a ci : Nat} {fs : List Value} (he : h.1 a = some (.inr (ci, fs))) (hci : ci < 100) : va_at D.1 vwCl (a, .inr (ci, fs)) H := by
  have h1 := hr.2.1 _ _ he
  unfold cAt at h1
  simp only [hci, if_true] at h1
  exact h1
theorem hR.at_a {D : HD} {A : Nat → Prop} {h : Hp} {H : Heap} (hr : hR D A h H) {a k : Nat} {x : vp_A} (he : h.1 a = some (.inl (k, x))) : H[a]? = some (vp_cell (D.2 k) x) := hr.2.1 _ _ he
theorem hR.put {D : HD} {A : Nat → Prop} {h : Hp} {H H1 : Heap} (hr : hR D A h H) {a : Nat} {e e' : va_E} (he : h.1 a = some e) (h1 : cAt D a e' H1) (h2 : H1.size = H.size) (h3 : ∀ q, q ≠ a → H1[q]? = H[q]?) : hR D A (hPut h a e') H1 := by
  obtain ⟨r1, r2, r3, r4⟩ := hr
  refine ⟨h2.trans r1, fun q x hq => ?_, fun q x hq hl => ?_, r4⟩
  · by_cases hqa : q = a
    · subst hqa
      simp only [hPut, if_true] at hq
      cases hq
      exact h1
    · simp only [hPut, hqa, if_false] at hq
      exact (r2 q x hq).kept (h3 q hqa)
  · by_cases hqa : q = a
    · subst hqa
      exact r3 _ _ he hl
    · simp only [hPut, hqa, if_false] at hq
      exact r3 q x hq hl
theorem hR.new {D : HD} {A : Nat → Prop} {h : Hp} {H H1 : Heap} (hr : hR D A h H) {e' : va_E} {n : Nat} (h1 : cAt D (hSz h) e' H1) (h2 : H1.size = H.size + 1) (h3 : ∀ q, q < H.size → H1[q]? = H[q]?) : hR D A (hNew h e' n) H1 := by
  obtain ⟨r1, r2, r3, r4⟩ := hr
  refine ⟨h2.trans (by rw [r1]; rfl), fun q x hq => ?_, fun q x hq hl => ?_, fun q hq => r4 q (Nat.le_of_succ_le hq)⟩
  · by_cases hqa : q = hSz h
    · subst hqa
      simp only [hNew, if_true] at hq
      cases hq
      exact h1
    · simp only [hNew, hqa, if_false] at hq
      exact (r2 q x hq).kept (h3 q (r2 q x hq).lt)
  · by_cases hqa : q = hSz h
    · subst hqa
      exact r4 _ (Nat.le_refl _)
    · simp only [hNew, hqa, if_false] at hq
      exact r3 q x hq hl
theorem h_mv {A : Nat → Prop} {H0 H H1 : Heap} {locs : List Loc} (hS : va_S A H0 H locs) (h2 : H1.size = H.size + 1) (h3 : ∀ q, q < H.size → H1[q]? = H[q]?) : va_S A H0 H1 locs := ⟨Nat.le_trans hS.1 (by omega), fun x g1 g2 => (h3 x (Nat.lt_of_lt_of_le g1 hS.1)).trans (hS.2.1 x g1 g2), hS.2.2⟩
section HRW
variable {p : Program} {l : Launch} {e : Env} {R : Room} {s : State} {m : MethodId} {args : Array Value} {below : List Frame} {meth : Method} {c : Code} {H : Heap} {locs : List Loc} {cells slots : Nat} {Q : State → Prop}
variable {cc : ByteArray} {pc : Nat} {ls : Array Slot} {rest : List Value} {D : HD} {A : Nat → Prop} {a : Nat} {H0 : Heap} {h : Hp}
theorem h_get (hexec : p.tables.exec = Jvm.exec) (hb : c.code = cc) {own ref C : String} {T : u_T} {N ci index : Nat} {Ts : List Cond} (hts : ∀ w ∈ Ts, w.before args s = true) (hin : ∀ w ∈ u_ws C T N, w ∈ Ts) (hown : s.vm.findClass own = some m.cls) (hGr : hG D A s s.heap) (hr : hR D A h H) {fs : List Value} (he : h.1 a = some (.inr (ci, fs))) (hci : ci < 100) (hc : vwCl[ci]? = some (C, T, N)) (k : Nat) (hk : k < N) (hlink : (Cond.fieldLink own index ref (T k).2.1 (T k).2.2.1).before args s = true) (hsame : ∀ x, s.fieldFound? (T k).1 (T k).2.1 (T k).2.2.1 = some x → s.fieldFound? ref (T k).2.1 (T k).2.2.1 = some x) {v : Value} (hv : fs[k]? = some v) (hdg : decode cc pc = .ok (.getfield index, 3)) (kk : W p l e R s m args below meth c H locs cells slots Q (F0 m (pc + 3) ls (v :: rest))) : W p l e R s m args below meth c H locs cells slots Q (F0 m pc ls (.ref a :: rest)) :=
  va_get hexec hb hts hin hown hGr.K (va_P1 (hr.at_o he hci)) 0 rfl hc k hk hlink hsame hv hdg kk
theorem h_getN (hexec : p.tables.exec = Jvm.exec) (hb : c.code = cc) {own ref C host : String} {T : u_T} {N ci index : Nat} {Ts : List Cond} (hts : ∀ w ∈ Ts, w.before args s = true) (hin : ∀ w ∈ u_ws C T N, w ∈ Ts) (hown : s.vm.findClass own = some m.cls) (hGr : hG D A s s.heap) (hr : hR D A h H) {fs : List Value} (he : h.1 a = some (.inr (ci, fs))) (hci : ci < 100) (hc : vwCl[ci]? = some (C, T, N)) (k : Nat) (hk : k < N) (hlink : (Cond.fieldLinkNest own index ref (T k).2.1 (T k).2.2.1 host).before args s = true) (hsame : ∀ x, s.fieldFound? (T k).1 (T k).2.1 (T k).2.2.1 = some x → s.fieldFound? ref (T k).2.1 (T k).2.2.1 = some x) {v : Value} (hv : fs[k]? = some v) (hdg : decode cc pc = .ok (.getfield index, 3)) (kk : W p l e R s m args below meth c H locs cells slots Q (F0 m (pc + 3) ls (v :: rest))) : W p l e R s m args below meth c H locs cells slots Q (F0 m pc ls (.ref a :: rest)) :=
  va_getN hexec hb hts hin hown hGr.K (va_P1 (hr.at_o he hci)) 0 rfl hc k hk hlink hsame hv hdg kk
theorem h_put (hexec : p.tables.exec = Jvm.exec) (hb : c.code = cc) {own ref C : String} {T : u_T} {N ci index : Nat} {Ts : List Cond} (hts : ∀ w ∈ Ts, w.before args s = true) (hin : ∀ w ∈ u_ws C T N, w ∈ Ts) (ty0 : Nat → FieldType) (hty : ∀ k, k < N → parseFieldDescriptor (T k).2.2.1 = some (ty0 k)) (hnm : ∀ a, a < N → ∀ b, b < N → a ≠ b → (T a).2.1 ≠ (T b).2.1) (hown : s.vm.findClass own = some m.cls) (hGr : hG D A s s.heap) (hr : hR D A h H) (hS0 : va_S A H0 H locs) {fs : List Value} (he : h.1 a = some (.inr (ci, fs))) (hci : ci < 100) (hc : vwCl[ci]? = some (C, T, N)) (k : Nat) (hk : k < N) (hlink : (Cond.fieldLink own index ref (T k).2.1 (T k).2.2.1).before args s = true) (hsame : ∀ x, s.fieldFound? (T k).1 (T k).2.1 (T k).2.2.1 = some x → s.fieldFound? ref (T k).2.1 (T k).2.2.1 = some x) (hfin : (T k).2.2.2 = false) {ty : FieldType} {v : Value} (hd : parseFieldDescriptor (T k).2.2.1 = some ty) (hn : narrow ty v = v) (hfit : fits ty v = true) (hl : k < fs.length) (hlo : hLo h ≤ a) (hdg : decode cc pc = .ok (.putfield index, 3))
    (kk : ∀ (H1 : Heap) (locs1 : List Loc), hR D A (hPut h a (.inr (ci, fs.set k v))) H1 → va_S A H0 H1 locs1 → W p l e R s m args below meth c H1 locs1 cells slots Q (F0 m (pc + 3) ls (rest))) : W p l e R s m args below meth c H locs cells slots Q (F0 m pc ls (v :: .ref a :: rest)) := by
  have hK := hGr.K
  have hap := va_apart (own := own) hts hin ty0 hty hnm hK hc
  obtain ⟨r, h1, cell, q1, q2, q3, q4⟩ := hr.at_o he hci
  have hrr : r = (C, T, N) := Option.some.inj (h1.symm.trans hc)
  subst hrr
  obtain ⟨hS, hfc, kC, hkC, hkind⟩ := hK.1 ci _ hc
  obtain ⟨cf, kf, fi, f, hi, hsl⟩ := hS k hk
  have hlay := hts _ (hin _ (u_in_lay hk))
  unfold u_lay at hlay
  rw [if_neg (by rw [hfin]; decide)] at hlay
  have hst := (u_facts hfc hkC (u_lays hts hin hk) hi).1
  have h6 := u_store hfc hkC hkind hlay hi hd hn hfit
  refine W.putK hexec hb (f := f) ⟨hown, hlink, ⟨_, _, _, hsame _ hi⟩, hst⟩ (by rw [q2]; exact h6) q1 q3 (by rw [hsl]; exact k2_hasslot (q4 k hk)) rfl rfl hdg fun H' e1 e2 e3 => ?_
  rw [hsl] at e1 ⊢
  refine kk H' _ (hr.put he ?_ e2 e3) (hS0.put e2 e3 (hr.2.2.1 _ _ he hlo))
  unfold cAt
  simp only [hci, if_true]
  exact ⟨_, hc, t_OB.to (V := updV (vp_V fs) k v) ⟨_, e1, q2, q3, t_set q4 hap hk v⟩ (fun j _ => vp_updV_set hl v j)⟩
theorem h_putN (hexec : p.tables.exec = Jvm.exec) (hb : c.code = cc) {own ref C host : String} {T : u_T} {N ci index : Nat} {Ts : List Cond} (hts : ∀ w ∈ Ts, w.before args s = true) (hin : ∀ w ∈ u_ws C T N, w ∈ Ts) (ty0 : Nat → FieldType) (hty : ∀ k, k < N → parseFieldDescriptor (T k).2.2.1 = some (ty0 k)) (hnm : ∀ a, a < N → ∀ b, b < N → a ≠ b → (T a).2.1 ≠ (T b).2.1) (hown : s.vm.findClass own = some m.cls) (hGr : hG D A s s.heap) (hr : hR D A h H) (hS0 : va_S A H0 H locs) {fs : List Value} (he : h.1 a = some (.inr (ci, fs))) (hci : ci < 100) (hc : vwCl[ci]? = some (C, T, N)) (k : Nat) (hk : k < N) (hlink : (Cond.fieldLinkNest own index ref (T k).2.1 (T k).2.2.1 host).before args s = true) (hsame : ∀ x, s.fieldFound? (T k).1 (T k).2.1 (T k).2.2.1 = some x → s.fieldFound? ref (T k).2.1 (T k).2.2.1 = some x) (hfin : (T k).2.2.2 = false) {ty : FieldType} {v : Value} (hd : parseFieldDescriptor (T k).2.2.1 = some ty) (hn : narrow ty v = v) (hfit : fits ty v = true) (hl : k < fs.length) (hlo : hLo h ≤ a) (hdg : decode cc pc = .ok (.putfield index, 3))
    (kk : ∀ (H1 : Heap) (locs1 : List Loc), hR D A (hPut h a (.inr (ci, fs.set k v))) H1 → va_S A H0 H1 locs1 → W p l e R s m args below meth c H1 locs1 cells slots Q (F0 m (pc + 3) ls (rest))) : W p l e R s m args below meth c H locs cells slots Q (F0 m pc ls (v :: .ref a :: rest)) := by
  have hK := hGr.K
  have hap := va_apart (own := own) hts hin ty0 hty hnm hK hc
  obtain ⟨r, h1, cell, q1, q2, q3, q4⟩ := hr.at_o he hci
  have hrr : r = (C, T, N) := Option.some.inj (h1.symm.trans hc)
  subst hrr
  obtain ⟨hS, hfc, kC, hkC, hkind⟩ := hK.1 ci _ hc
  obtain ⟨cf, kf, fi, f, hi, hsl⟩ := hS k hk
  have hlay := hts _ (hin _ (u_in_lay hk))
  unfold u_lay at hlay
  rw [if_neg (by rw [hfin]; decide)] at hlay
  have hst := (u_facts hfc hkC (u_lays hts hin hk) hi).1
  have h6 := u_store hfc hkC hkind hlay hi hd hn hfit
  refine va_WputK hexec hb (f := f) hown hlink (hsame _ hi) hst (by rw [q2]; exact h6) q1 q3 (by rw [hsl]; exact k2_hasslot (q4 k hk)) rfl rfl hdg fun H' e1 e2 e3 => ?_
  rw [hsl] at e1 ⊢
  refine kk H' _ (hr.put he ?_ e2 e3) (hS0.put e2 e3 (hr.2.2.1 _ _ he hlo))
  unfold cAt
  simp only [hci, if_true]
  exact ⟨_, hc, t_OB.to (V := updV (vp_V fs) k v) ⟨_, e1, q2, q3, t_set q4 hap hk v⟩ (fun j _ => vp_updV_set hl v j)⟩
theorem h_putF (hexec : p.tables.exec = Jvm.exec) (hb : c.code = cc) {own ref C : String} {T : u_T} {N ci index : Nat} {Ts : List Cond} (hts : ∀ w ∈ Ts, w.before args s = true) (hin : ∀ w ∈ u_ws C T N, w ∈ Ts) (ty0 : Nat → FieldType) (hty : ∀ k, k < N → parseFieldDescriptor (T k).2.2.1 = some (ty0 k)) (hnm : ∀ a, a < N → ∀ b, b < N → a ≠ b → (T a).2.1 ≠ (T b).2.1) (hown : s.vm.findClass own = some m.cls) (hGr : hG D A s s.heap) (hr : hR D A h H) (hS0 : va_S A H0 H locs) {fs : List Value} (he : h.1 a = some (.inr (ci, fs))) (hci : ci < 100) (hc : vwCl[ci]? = some (C, T, N)) (k : Nat) (hk : k < N) (hlink : (Cond.fieldLink own index ref (T k).2.1 (T k).2.2.1).before args s = true) (hsame : ∀ x, s.fieldFound? (T k).1 (T k).2.1 (T k).2.2.1 = some x → s.fieldFound? ref (T k).2.1 (T k).2.2.1 = some x) (hfin : (T k).2.2.2 = true) (hin2 : meth.name = "<init>") (hdecl : (T k).1 = own) {ty : FieldType} {v : Value} (hd : parseFieldDescriptor (T k).2.2.1 = some ty) (hn : narrow ty v = v) (hfit : fits ty v = true) (hl : k < fs.length) (hlo : hLo h ≤ a) (hdg : decode cc pc = .ok (.putfield index, 3))
    (kk : ∀ (H1 : Heap) (locs1 : List Loc), hR D A (hPut h a (.inr (ci, fs.set k v))) H1 → va_S A H0 H1 locs1 → W p l e R s m args below meth c H1 locs1 cells slots Q (F0 m (pc + 3) ls (rest))) : W p l e R s m args below meth c H locs cells slots Q (F0 m pc ls (v :: .ref a :: rest)) := by
  have hK := hGr.K
  have hap := va_apart (own := own) hts hin ty0 hty hnm hK hc
  obtain ⟨r, h1, cell, q1, q2, q3, q4⟩ := hr.at_o he hci
  have hrr : r = (C, T, N) := Option.some.inj (h1.symm.trans hc)
  subst hrr
  obtain ⟨hS, hfc, kC, hkC, hkind⟩ := hK.1 ci _ hc
  obtain ⟨cf, kf, fi, f, hi, hsl⟩ := hS k hk
  have hlay := hts _ (hin _ (u_in_lay hk))
  unfold u_lay at hlay
  rw [if_pos hfin] at hlay
  have hst := (u_facts hfc hkC (u_lays hts hin hk) hi).1
  have hcf : m.cls = cf := by
    obtain ⟨_, _, c', _, _, _, -, -, hf', -, -, -, hown2, -⟩ := Cond.laysFinal_spec hlay
    have e1 : c' = cf := by have := hi.symm.trans hf'; simp at this; exact this.1.symm
    rw [hdecl] at hown2
    rw [← e1]; exact Option.some.inj (hown.symm.trans hown2)
  have h6 := u_fits hfc hkC hkind (Or.inr hlay) hi hd hn hfit
  refine W.putFinK hexec hb hown hlink (hsame _ hi) hst hcf hin2 (by rw [q2]; exact h6) q1 q3 (by rw [hsl]; exact k2_hasslot (q4 k hk)) rfl rfl hdg fun H' e1 e2 e3 => ?_
  rw [hsl] at e1 ⊢
  refine kk H' _ (hr.put he ?_ e2 e3) (hS0.put e2 e3 (hr.2.2.1 _ _ he hlo))
  unfold cAt
  simp only [hci, if_true]
  exact ⟨_, hc, t_OB.to (V := updV (vp_V fs) k v) ⟨_, e1, q2, q3, t_set q4 hap hk v⟩ (fun j _ => vp_updV_set hl v j)⟩
theorem h_iald (hexec : p.tables.exec = Jvm.exec) (hb : c.code = cc) (hGr : hG D A s s.heap) (hr : hR D A h H) (kd : Nat) (ht : (tyL D.2)[kd]? = some (D.2 kd, .int)) {n : Nat} {f : Nat → Int32} (he : h.1 a = some (.inl (kd, n, .inl f))) {i : Int32} (hin : inB i n = true) (hdg : decode cc pc = .ok (.iaload, 1)) (kk : W p l e R s m args below meth c H locs cells slots Q (F0 m (pc + 1) ls (.int (f i.toNatClampNeg) :: rest))) : W p l e R s m args below meth c H locs cells slots Q (F0 m pc ls (.int i :: .ref a :: rest)) :=
  va_iald hexec hb hGr.K (va_P1 (q := (a, .inl (D.2 kd, n, .inl f))) (hr.at_a he)) 0 kd rfl ht (inB_in hin) hdg kk
theorem h_bald (hexec : p.tables.exec = Jvm.exec) (hb : c.code = cc) (hGr : hG D A s s.heap) (hr : hR D A h H) (kd : Nat) (ht : (tyL D.2)[kd]? = some (D.2 kd, .byte)) {n : Nat} {f : Nat → Int32} (he : h.1 a = some (.inl (kd, n, .inl f))) {i : Int32} (hin : inB i n = true) (hdg : decode cc pc = .ok (.baload, 1)) (kk : W p l e R s m args below meth c H locs cells slots Q (F0 m (pc + 1) ls (.int (f i.toNatClampNeg) :: rest))) : W p l e R s m args below meth c H locs cells slots Q (F0 m pc ls (.int i :: .ref a :: rest)) :=
  va_bald hexec hb hGr.K (va_P1 (q := (a, .inl (D.2 kd, n, .inl f))) (hr.at_a he)) 0 kd rfl ht (inB_in hin) hdg kk
theorem h_alen (hexec : p.tables.exec = Jvm.exec) (hb : c.code = cc) (hGr : hG D A s s.heap) (hr : hR D A h H) {k : Nat} {x : vp_A} (he : h.1 a = some (.inl (k, x))) (hk : k < 6) (hdg : decode cc pc = .ok (.arraylength, 1)) (kk : W p l e R s m args below meth c H locs cells slots Q (F0 m (pc + 1) ls (.int (Int32.ofNat x.1) :: rest))) : W p l e R s m args below meth c H locs cells slots Q (F0 m pc ls (.ref a :: rest)) := by
  have hp := va_P1 (D := D.1) (cl := vwCl) (q := (a, .inl (D.2 k, x))) (hr.at_a he)
  match k, hk with
  | 0, _ => exact va_alen hexec hb hGr.K hp 0 0 rfl rfl rfl hdg kk
  | 1, _ => exact va_alen hexec hb hGr.K hp 0 1 rfl rfl rfl hdg kk
  | 2, _ => exact va_alen hexec hb hGr.K hp 0 2 rfl rfl rfl hdg kk
  | 3, _ => exact va_alen hexec hb hGr.K hp 0 3 rfl rfl rfl hdg kk
  | 4, _ => exact va_alen hexec hb hGr.K hp 0 4 rfl rfl rfl hdg kk
  | 5, _ => exact va_alen hexec hb hGr.K hp 0 5 rfl rfl rfl hdg kk
theorem h_aald (hexec : p.tables.exec = Jvm.exec) (hb : c.code = cc) (hGr : hG D A s s.heap) (hr : hR D A h H) {kd n : Nat} (hkd : kd = 2 ∨ kd = 3 ∨ kd = 4) {f : Nat → Option Nat} (he : h.1 a = some (.inl (kd, n, .inr (.inr (.inr (.inr f)))))) {i : Int32} (hin : inB i n = true) (hdg : decode cc pc = .ok (.aaload, 1)) {v : Value} (hv : va_rf (f i.toNatClampNeg) = v) (kk : W p l e R s m args below meth c H locs cells slots Q (F0 m (pc + 1) ls (v :: rest))) : W p l e R s m args below meth c H locs cells slots Q (F0 m pc ls (.int i :: .ref a :: rest)) := by
  subst hv
  have hp := va_P1 (D := D.1) (cl := vwCl) (q := (a, .inl (D.2 kd, n, .inr (.inr (.inr (.inr f)))))) (hr.at_a he)
  rcases hkd with rfl | rfl | rfl
  · exact va_aldq hexec hb hGr.K hp 0 2 rfl rfl (inB_in hin) hdg kk
  · exact va_aldq hexec hb hGr.K hp 0 3 rfl rfl (inB_in hin) hdg kk
  · have hlt : i.toNatClampNeg < n := Nat.not_le.mp fun q => inB_in hin (Or.inr q)
    exact W.aald (v := va_rf (f i.toNatClampNeg)) (ty := .array .int) hexec hb (hp 0 _ rfl) ((hGr.K.2 4 _ rfl).1 n (fun j => va_rf (f j))) rfl (fun q => by cases q) (by show ¬ (i < 0 ∨ (arrV _ _ _).slots.size ≤ _); rw [arrV_size]; exact inB_in hin) (by show (arrV _ _ _).slots[_]? = _; rw [arrV_read _ _ hlt]) rfl rfl hdg kk
theorem h_iast (hexec : p.tables.exec = Jvm.exec) (hb : c.code = cc) (hGr : hG D A s s.heap) (hr : hR D A h H) (hS : va_S A H0 H locs) (kd : Nat) (ht : (tyL D.2)[kd]? = some (D.2 kd, .int)) {n : Nat} {f : Nat → Int32} (he : h.1 a = some (.inl (kd, n, .inl f))) {i x : Int32} (hin : inB i n = true) (hlo : hLo h ≤ a) (hdg : decode cc pc = .ok (.iastore, 1))
    (kk : ∀ (H1 : Heap) (locs1 : List Loc), hR D A (hPut h a (.inl (kd, n, .inl (upd f i.toNatClampNeg x)))) H1 → va_S A H0 H1 locs1 → W p l e R s m args below meth c H1 locs1 cells slots Q (F0 m (pc + 1) ls (rest))) : W p l e R s m args below meth c H locs cells slots Q (F0 m pc ls (.int x :: .int i :: .ref a :: rest)) := by
  refine W.iast hexec hb (hr.at_a he) ((hGr.K.2 kd _ ht).1 n (fun j => .int (f j))) (fun q => by cases q) (by show ¬ (i < 0 ∨ (arrV _ _ _).slots.size ≤ _); rw [arrV_size]; exact inB_in hin) rfl rfl hdg fun H1 e z oq => ?_
  refine kk H1 _ (hr.put he ?_ z oq) (hS.put z oq (hr.2.2.1 _ _ he hlo))
  show H1[a]? = some (vp_cell _ _)
  rw [e]
  rw [vp_cell_i, vp_cell_i, arrV_store]
  congr 2
  funext q
  by_cases hq : q = i.toNatClampNeg
  · subst hq
    simp [updV, upd]
    try rfl
  · simp [updV, upd, hq]
theorem h_bast (hexec : p.tables.exec = Jvm.exec) (hb : c.code = cc) (hGr : hG D A s s.heap) (hr : hR D A h H) (hS : va_S A H0 H locs) (kd : Nat) (ht : (tyL D.2)[kd]? = some (D.2 kd, .byte)) {n : Nat} {f : Nat → Int32} (he : h.1 a = some (.inl (kd, n, .inl f))) {i x : Int32} (hin : inB i n = true) (hlo : hLo h ≤ a) (hdg : decode cc pc = .ok (.bastore, 1))
    (kk : ∀ (H1 : Heap) (locs1 : List Loc), hR D A (hPut h a (.inl (kd, n, .inl (upd f i.toNatClampNeg (vp_nar .byte x))))) H1 → va_S A H0 H1 locs1 → W p l e R s m args below meth c H1 locs1 cells slots Q (F0 m (pc + 1) ls (rest))) : W p l e R s m args below meth c H locs cells slots Q (F0 m pc ls (.int x :: .int i :: .ref a :: rest)) := by
  refine W.bast hexec hb (hr.at_a he) ((hGr.K.2 kd _ ht).1 n (fun j => .int (f j))) (fun q => by cases q) (by show ¬ (i < 0 ∨ (arrV _ _ _).slots.size ≤ _); rw [arrV_size]; exact inB_in hin) rfl rfl hdg fun H1 e z oq => ?_
  refine kk H1 _ (hr.put he ?_ z oq) (hS.put z oq (hr.2.2.1 _ _ he hlo))
  show H1[a]? = some (vp_cell _ _)
  rw [e]
  rw [vp_cell_i, vp_cell_i, arrV_store]
  congr 2
  funext q
  by_cases hq : q = i.toNatClampNeg
  · subst hq
    simp [updV, upd, vp_nar]
    try rfl
  · simp [updV, upd, hq]
theorem h_aastN (hexec : p.tables.exec = Jvm.exec) (hb : c.code = cc) (hGr : hG D A s s.heap) (hr : hR D A h H) (hS : va_S A H0 H locs) {kd n : Nat} (hkd : kd = 2 ∨ kd = 3) {f : Nat → Option Nat} (he : h.1 a = some (.inl (kd, n, .inr (.inr (.inr (.inr f)))))) {i : Int32} (hin : inB i n = true) (hlo : hLo h ≤ a) (hdg : decode cc pc = .ok (.aastore, 1))
    (kk : ∀ (H1 : Heap) (locs1 : List Loc), hR D A (hPut h a (.inl (kd, n, .inr (.inr (.inr (.inr (va_up f i.toNatClampNeg none))))))) H1 → va_S A H0 H1 locs1 → W p l e R s m args below meth c H1 locs1 cells slots Q (F0 m (pc + 1) ls (rest))) : W p l e R s m args below meth c H locs cells slots Q (F0 m pc ls (.null :: .int i :: .ref a :: rest)) := by
  obtain ⟨C, hC⟩ : ∃ C, (tyL D.2)[kd]? = some (D.2 kd, .object C) := by rcases hkd with rfl | rfl <;> exact ⟨_, rfl⟩
  refine va_WaastN (C := C) hexec hb (hr.at_a he) ((hGr.K.2 kd _ hC).1 n (fun j => va_rf (f j))) (fun h => by cases h) (by show ¬ (i < 0 ∨ (arrV _ _ _).slots.size ≤ _); rw [arrV_size]; exact inB_in hin) rfl rfl hdg fun H1 e z oq => ?_
  refine kk H1 _ (hr.put he ?_ z oq) (hS.put z oq (hr.2.2.1 _ _ he hlo))
  show H1[a]? = some (vp_cell _ _)
  rw [e]
  rw [vp_cell_q, vp_cell_q, arrV_store]
  congr 2
  funext q
  by_cases hq : q = i.toNatClampNeg
  · subst hq
    simp [updV, va_up, va_rf]
    try rfl
  · simp [updV, va_up, hq]
theorem h_aastR (hexec : p.tables.exec = Jvm.exec) (hb : c.code = cc) (hGr : hG D A s s.heap) (hr : hR D A h H) (hS : va_S A H0 H locs) {n v nv : Nat} {f : Nat → Option Nat} {fv : Nat → Int32} (he : h.1 a = some (.inl (4, n, .inr (.inr (.inr (.inr f)))))) (hv : h.1 v = some (.inl (0, nv, .inl fv))) {i : Int32} (hin : inB i n = true) (hlo : hLo h ≤ a) (hdg : decode cc pc = .ok (.aastore, 1))
    (kk : ∀ (H1 : Heap) (locs1 : List Loc), hR D A (hPut h a (.inl (4, n, .inr (.inr (.inr (.inr (va_up f i.toNatClampNeg (some v)))))))) H1 → va_S A H0 H1 locs1 → W p l e R s m args below meth c H1 locs1 cells slots Q (F0 m (pc + 1) ls (rest))) : W p l e R s m args below meth c H locs cells slots Q (F0 m pc ls (.ref v :: .int i :: .ref a :: rest)) := by
  have hlt : i.toNatClampNeg < n := Nat.not_le.mp fun q => inB_in hin (Or.inr q)
  have h0 : ¬ i < 0 := fun q => inB_in hin (Or.inl q)
  obtain ⟨k4, k1, k2⟩ := hGr.row
  obtain ⟨-, k0, j1, comp0, j2⟩ := (hGr.K.2 0 _ rfl).1 0 (fun _ => .int 0)
  refine W.aast hexec hb (hr.at_a he) (fun q h => by cases h) (fun h => by cases h) k1 k2 rfl j1 ⟨h0, by show _ < (arrV _ _ _).slots.size; rw [arrV_size]; exact hlt⟩ (hr.at_a hv) (fun q h => by cases h) j1 (va_asg_self _ _) rfl rfl hdg fun H1 e z oq => ?_
  refine kk H1 _ (hr.put he ?_ z oq) (hS.put z oq (hr.2.2.1 _ _ he hlo))
  show H1[a]? = some (vp_cell _ _)
  rw [e]
  rw [vp_cell_q, vp_cell_q, arrV_store]
  congr 2
  funext q
  by_cases hq : q = i.toNatClampNeg
  · subst hq
    simp [updV, va_up, va_rf]
    try rfl
  · simp [updV, va_up, hq]
theorem h_aastQ (hexec : p.tables.exec = Jvm.exec) (hb : c.code = cc) (hGr : hG D A s s.heap) (hr : hR D A h H) (hS : va_S A H0 H locs) {kd n v cv : Nat} {fv : List Value} {f : Nat → Option Nat} (he : h.1 a = some (.inl (kd, n, .inr (.inr (.inr (.inr f)))))) (hv : h.1 v = some (.inr (cv, fv))) (hlo : hLo h ≤ a) (hok : okO cv = true) (hkd : kd = 2 ∨ (kd = 3 ∧ cv = 2)) {i : Int32} (hin : inB i n = true) (hdg : decode cc pc = .ok (.aastore, 1))
    (kk : ∀ (H1 : Heap) (locs1 : List Loc), hR D A (hPut h a (.inl (kd, n, .inr (.inr (.inr (.inr (va_up f i.toNatClampNeg (some v)))))))) H1 → va_S A H0 H1 locs1 → W p l e R s m args below meth c H1 locs1 cells slots Q (F0 m (pc + 1) ls (rest))) : W p l e R s m args below meth c H locs cells slots Q (F0 m pc ls (.ref v :: .int i :: .ref a :: rest)) := by
  have hlt : i.toNatClampNeg < n := Nat.not_le.mp fun q => inB_in hin (Or.inr q)
  have h0 : ¬ i < 0 := fun q => inB_in hin (Or.inl q)
  have hcv : cv = 2 ∨ cv = 7 ∨ cv = 8 := by
    simp only [okO, Bool.or_eq_true, beq_iff_eq] at hok
    rcases hok with (h | h) | h
    · exact Or.inl h
    · exact Or.inr (Or.inl h)
    · exact Or.inr (Or.inr h)
  obtain ⟨r', hr', cellV, g1, g2, g3, -⟩ := hr.at_o hv (by rcases hcv with rfl | rfl | rfl <;> decide)
  have hcls : ClassAt s r'.1 (D.1.1 cv) := (hGr.K.1 cv r' hr').2
  have key : ∃ (kA kc : Class) (comp : ClassId) (C : String), s.vm.classes[D.2 kd]? = some kA ∧ kA.kind = .array comp (.object C) ∧ s.vm.classes[comp]? = some kc ∧ s.vm.assignable (D.1.1 cv) comp = true := by
    rcases hkd with rfl | ⟨rfl, rfl⟩
    · obtain ⟨kA, comp, k1, k2, k3, -⟩ := (hGr.K.2 2 _ rfl).2
      have hca : va_Nw (.castable r'.1 "java/lang/Object") s := by
        rcases hcv with rfl | rfl | rfl <;> cases hr'
        · exact hGr.nw q2512 rfl
        · exact hGr.nw q2534 rfl
        · exact hGr.nw q2535 rfl
      obtain ⟨c0, t0, f1, f2, f3⟩ := Cond.castable_spec hca
      obtain ⟨kc, hkc, -⟩ := Vm.findClass_spec k3
      cases hcls.1.symm.trans f1
      cases k3.symm.trans f2
      exact ⟨kA, kc, comp, _, k1, k2, hkc, f3⟩
    · obtain ⟨kA, comp, k1, k2, k3, -⟩ := (hGr.K.2 3 _ rfl).2
      cases hr'
      obtain ⟨kc, hkc, -⟩ := Vm.findClass_spec k3
      have hcomp : comp = D.1.1 2 := Option.some.inj (k3.symm.trans hcls.1)
      subst hcomp
      exact ⟨kA, kc, _, _, k1, k2, hkc, va_assign hcls⟩
  obtain ⟨kA, kc, comp, C, k1, k2, k3, k4⟩ := key
  obtain ⟨kC, hkC, -⟩ := hcls.2
  refine W.aast hexec hb (hr.at_a he) (fun q h => by cases h) (fun h => by cases h) k1 k2 rfl k3 ⟨h0, by show _ < (arrV _ _ _).slots.size; rw [arrV_size]; exact hlt⟩ g1 (fun q h => by rw [g3] at h; cases h) (by rw [g2]; exact hkC) (by rw [g2]; exact k4) rfl rfl hdg fun H1 e z oq => ?_
  refine kk H1 _ (hr.put he ?_ z oq) (hS.put z oq (hr.2.2.1 _ _ he hlo))
  show H1[a]? = some (vp_cell _ _)
  rw [e]
  rw [vp_cell_q, vp_cell_q, arrV_store]
  congr 2
  funext q
  by_cases hq : q = i.toNatClampNeg
  · subst hq
    simp [updV, va_up, va_rf]
    try rfl
  · simp [updV, va_up, hq]
theorem h_new (hexec : p.tables.exec = Jvm.exec) (hb : c.code = cc) {own C : String} {T : u_T} {N ci index : Nat} {Ts : List Cond} (hts : ∀ w ∈ Ts, w.before args s = true) (hin : ∀ w ∈ u_ws C T N, w ∈ Ts) (ty : Nat → FieldType) (hty : ∀ k, k < N → parseFieldDescriptor (T k).2.2.1 = some (ty k)) (hown : s.vm.findClass own = some m.cls) (hcl : (Cond.classLink own index C).before args s = true) (hinst : (Cond.instantiable C N).before args s = true) (hini : (Cond.initialized C).before args s = true)
    (hGr : hG D A s s.heap) (hr : hR D A h H) (hS : va_S A H0 H locs) (hci : ci < 100) (hc : vwCl[ci]? = some (C, T, N)) {fs : List Value} (hfs : ∀ j, j < N → defaultValue (ty j) = vp_V fs j) (hcells : cells + 1 ≤ R.cells) (hslots : slots + N ≤ R.slots) (hdg : decode cc pc = .ok (.new index, 3))
    (kk : ∀ (H1 : Heap), hR D A (hNew h (.inr (ci, fs)) N) H1 → va_S A H0 H1 locs → W p l e R s m args below meth c H1 locs (cells + 1) (slots + N) Q (F0 m (pc + 3) ls (.ref (hSz h) :: rest))) : W p l e R s m args below meth c H locs cells slots Q (F0 m pc ls (rest)) := by
  have hKn := hGr.K.1 ci _ hc
  refine W.newcK hexec hb hown hcl hinst hini rfl hdg hcells hslots hKn.2.1 rfl fun H1 kC hkC e1 z1 o1 => ?_
  have hz := hr.1
  rw [hz] at e1 ⊢
  refine kk H1 (hr.new ?_ z1 o1) (h_mv hS z1 o1)
  unfold cAt
  simp only [hci, if_true]
  exact ⟨_, hc, (u_born ty hts hin hKn hkC e1 hty).to hfs⟩
theorem h_newI (hexec : p.tables.exec = Jvm.exec) (hb : c.code = cc) (harr : (Cond.arrayClass .int).before args s = true) (hGr : hG D A s s.heap) (hr : hR D A h H) (hS : va_S A H0 H locs) {n : Int32} (hn : szB n = true) (hcells : cells + 1 ≤ R.cells) (hslots : slots + n.toNatClampNeg ≤ R.slots) (hdg : decode cc pc = .ok (.newarray .int, 2))
    (kk : ∀ (H1 : Heap), hR D A (hNew h (.inl (0, n.toNatClampNeg, .inl (fun _ => 0))) n.toNatClampNeg) H1 → va_S A H0 H1 locs → W p l e R s m args below meth c H1 locs (cells + 1) (slots + n.toNatClampNeg) Q (F0 m (pc + 2) ls (.ref (hSz h) :: rest))) : W p l e R s m args below meth c H locs cells slots Q (F0 m pc ls (.int n :: rest)) := by
  obtain ⟨g1, g2⟩ := szB_s hn
  refine va_newaK (atype := .int) hexec hb harr rfl hdg rfl g1 rfl (Nat.le_trans (Nat.mul_le_mul g2 (show componentBytes .int ≤ 4 by decide)) (by decide)) hcells hslots hr.1 fun H1 cA e1 z1 o1 hAr hNm => ?_
  have hz := hr.1
  have hcA : cA = D.2 0 := Option.some.inj (hNm.symm.trans (hGr.K.2 0 _ rfl).2)
  subst hcA
  exact kk H1 (hr.new (by show H1[hSz h]? = some (vp_cell _ _); rw [vp_cell_i]; exact e1) (by rw [z1, hz]) (by rw [hz]; exact o1)) (h_mv hS (by rw [z1, hz]) (by rw [hz]; exact o1))
theorem h_newB (hexec : p.tables.exec = Jvm.exec) (hb : c.code = cc) (harr : (Cond.arrayClass .byte).before args s = true) (hGr : hG D A s s.heap) (hr : hR D A h H) (hS : va_S A H0 H locs) {n : Int32} (hn : szB n = true) (hcells : cells + 1 ≤ R.cells) (hslots : slots + n.toNatClampNeg ≤ R.slots) (hdg : decode cc pc = .ok (.newarray .byte, 2))
    (kk : ∀ (H1 : Heap), hR D A (hNew h (.inl (1, n.toNatClampNeg, .inl (fun _ => 0))) n.toNatClampNeg) H1 → va_S A H0 H1 locs → W p l e R s m args below meth c H1 locs (cells + 1) (slots + n.toNatClampNeg) Q (F0 m (pc + 2) ls (.ref (hSz h) :: rest))) : W p l e R s m args below meth c H locs cells slots Q (F0 m pc ls (.int n :: rest)) := by
  obtain ⟨g1, g2⟩ := szB_s hn
  refine va_newaK (atype := .byte) hexec hb harr rfl hdg rfl g1 rfl (Nat.le_trans (Nat.mul_le_mul g2 (show componentBytes .byte ≤ 4 by decide)) (by decide)) hcells hslots hr.1 fun H1 cA e1 z1 o1 hAr hNm => ?_
  have hz := hr.1
  have hcA : cA = D.2 1 := Option.some.inj (hNm.symm.trans (hGr.K.2 1 _ rfl).2)
  subst hcA
  exact kk H1 (hr.new (by show H1[hSz h]? = some (vp_cell _ _); rw [vp_cell_i]; exact e1) (by rw [z1, hz]) (by rw [hz]; exact o1)) (h_mv hS (by rw [z1, hz]) (by rw [hz]; exact o1))
theorem h_newO (hexec : p.tables.exec = Jvm.exec) (hb : c.code = cc) {own : String} {index : Nat} (hown : s.vm.findClass own = some m.cls) (hclink : (Cond.classLink own index "java/lang/Object").before args s = true) (hGr : hG D A s s.heap) (hr : hR D A h H) (hS : va_S A H0 H locs) {n : Int32} (hn : szB n = true) (hcells : cells + 1 ≤ R.cells) (hslots : slots + n.toNatClampNeg ≤ R.slots) (hdg : decode cc pc = .ok (.anewarray index, 3))
    (kk : ∀ (H1 : Heap), hR D A (hNew h (.inl (2, n.toNatClampNeg, .inr (.inr (.inr (.inr (fun _ => none)))))) n.toNatClampNeg) H1 → va_S A H0 H1 locs → W p l e R s m args below meth c H1 locs (cells + 1) (slots + n.toNatClampNeg) Q (F0 m (pc + 3) ls (.ref (hSz h) :: rest))) : W p l e R s m args below meth c H locs cells slots Q (F0 m pc ls (.int n :: rest)) := by
  obtain ⟨g1, g2⟩ := szB_s hn
  refine W.anew hexec hb hown hclink (va_AO.use hGr.ao) rfl hdg rfl g1 (Nat.le_trans (Nat.mul_le_mul_right 4 g2) (by decide)) hcells hslots fun cA kA comp f1 f2 f3 f4 => ?_
  have hcA : cA = D.2 2 := by
    obtain ⟨kA', comp', a1, a2, a3, a4⟩ := (hGr.K.2 2 _ rfl).2
    exact Option.some.inj (f1.symm.trans a4)
  subst hcA
  have hz := hr.1
  rw [hz]
  generalize hH1 : H.push ({ cls := D.2 2, slots := Array.replicate n.toNatClampNeg .null, vm := .none } : Cell) = H1
  have z1 : H1.size = H.size + 1 := by rw [← hH1, Array.size_push]
  have e1 : H1[H.size]? = some (arrV (D.2 2) n.toNatClampNeg (fun _ => .null)) := by rw [← hH1, Array.getElem?_push_size, ← arrV_new]
  have o1 : ∀ q : Nat, q < H.size → H1[q]? = H[q]? := fun q hq => by rw [← hH1, Array.getElem?_push, if_neg (Nat.ne_of_lt hq)]
  rw [hz] at e1
  exact kk H1 (hr.new (by show H1[hSz h]? = some (vp_cell _ _); rw [vp_cell_q]; exact e1) z1 o1) (h_mv hS z1 o1)
theorem h_newP (hexec : p.tables.exec = Jvm.exec) (hb : c.code = cc) {own : String} {index : Nat} (hown : s.vm.findClass own = some m.cls) (hclink : (Cond.classLink own index "ExactChains$Process").before args s = true) (hGr : hG D A s s.heap) (hr : hR D A h H) (hS : va_S A H0 H locs) {n : Int32} (hn : szB n = true) (hcells : cells + 1 ≤ R.cells) (hslots : slots + n.toNatClampNeg ≤ R.slots) (hdg : decode cc pc = .ok (.anewarray index, 3))
    (kk : ∀ (H1 : Heap), hR D A (hNew h (.inl (3, n.toNatClampNeg, .inr (.inr (.inr (.inr (fun _ => none)))))) n.toNatClampNeg) H1 → va_S A H0 H1 locs → W p l e R s m args below meth c H1 locs (cells + 1) (slots + n.toNatClampNeg) Q (F0 m (pc + 3) ls (.ref (hSz h) :: rest))) : W p l e R s m args below meth c H locs cells slots Q (F0 m pc ls (.int n :: rest)) := by
  obtain ⟨g1, g2⟩ := szB_s hn
  refine W.anew hexec hb hown hclink (va_AO.use hGr.ap) rfl hdg rfl g1 (Nat.le_trans (Nat.mul_le_mul_right 4 g2) (by decide)) hcells hslots fun cA kA comp f1 f2 f3 f4 => ?_
  have hcA : cA = D.2 3 := by
    obtain ⟨kA', comp', a1, a2, a3, a4⟩ := (hGr.K.2 3 _ rfl).2
    exact Option.some.inj (f1.symm.trans a4)
  subst hcA
  have hz := hr.1
  rw [hz]
  generalize hH1 : H.push ({ cls := D.2 3, slots := Array.replicate n.toNatClampNeg .null, vm := .none } : Cell) = H1
  have z1 : H1.size = H.size + 1 := by rw [← hH1, Array.size_push]
  have e1 : H1[H.size]? = some (arrV (D.2 3) n.toNatClampNeg (fun _ => .null)) := by rw [← hH1, Array.getElem?_push_size, ← arrV_new]
  have o1 : ∀ q : Nat, q < H.size → H1[q]? = H[q]? := fun q hq => by rw [← hH1, Array.getElem?_push, if_neg (Nat.ne_of_lt hq)]
  rw [hz] at e1
  exact kk H1 (hr.new (by show H1[hSz h]? = some (vp_cell _ _); rw [vp_cell_q]; exact e1) z1 o1) (h_mv hS z1 o1)
end HRW
theorem cell_arrV {c : Cell} {cA : ClassId} {N : Nat} {f : Nat → Value} (h1 : c = { cls := cA, slots := c.slots, vm := .none }) (h3 : c.slots.size = N) (h4 : ∀ j, j < N → c.slots[j]? = some (f j)) : c = arrV cA N f := by
  rw [h1]
  generalize c.slots = w at h3 h4
  subst h3
  unfold arrV
  congr 1
  refine Array.ext (by simp) (fun i a b => ?_)
  have := h4 i a
  rw [Array.getElem?_eq_getElem a] at this
  simpa using this
theorem outerC_eq (c : ClassId) (N h0 : Nat) : ∀ i, Jvm.Free.Multi.outerC c N h0 i = { cls := c, slots := (Jvm.Free.Multi.outerC c N h0 i).slots, vm := .none }
  | 0 => rfl
  | i + 1 => by
    have h := outerC_eq c N h0 i
    show Cell.setSlot (Jvm.Free.Multi.outerC c N h0 i) i (.ref (h0 + 1 + i)) = { cls := c, slots := (Cell.setSlot (Jvm.Free.Multi.outerC c N h0 i) i (.ref (h0 + 1 + i))).slots, vm := .none }
    rw [h]
    rfl
def hMul (h : Hp) (n k : Nat) : Hp := (fun q => if q = hSz h then some (.inl (4, n, .inr (.inr (.inr (.inr (fun j => if j < n then some (hSz h + 1 + j) else none)))))) else if hSz h < q ∧ q ≤ hSz h + n then some (.inl (0, k, .inl (fun _ => 0))) else h.1 q, (hLo h, hSz h + 1 + n, hCc h + 1 + n, hSl h + n + n * k))
theorem hle_mul {h : Hp} {n k : Nat} : hle h (hMul h n k) := ⟨by show hSz h ≤ hSz h + 1 + n; omega, by show hCc h ≤ hCc h + 1 + n; omega, by show hSl h ≤ hSl h + n + n * k; omega⟩
def nM {β : Type} (h : Hp) (n k : Int32) (K : Nat → Hp → Option β) : Option β := gd (szB n && szB k) (K (hSz h) (hMul h n.toNatClampNeg k.toNatClampNeg))
section HRW2
variable {p : Program} {l : Launch} {e : Env} {R : Room} {s : State} {m : MethodId} {args : Array Value} {below : List Frame} {meth : Method} {c : Code} {H : Heap} {locs : List Loc} {cells slots : Nat} {Q : State → Prop}
variable {cc : ByteArray} {pc : Nat} {ls : Array Slot} {rest : List Value} {D : HD} {A : Nat → Prop} {a : Nat} {H0 : Heap} {h : Hp}
theorem h_multi (hexec : p.tables.exec = Jvm.exec) (hb : c.code = cc) {own : String} {index : Nat} (hown : s.vm.findClass own = some m.cls) (hclink : (Cond.classLink own index "[[I").before args s = true) (harr : (Cond.arrayClass .int).before args s = true) (hGr : hG D A s s.heap) (hr : hR D A h H) (hS : va_S A H0 H locs) {n k : Int32} (hn : szB n = true) (hk : szB k = true) (hcells : cells + (1 + n.toNatClampNeg) ≤ R.cells) (hslots : slots + (n.toNatClampNeg + n.toNatClampNeg * k.toNatClampNeg) ≤ R.slots) (hdg : decode cc pc = .ok (.multianewarray index 2, 4))
    (kk : ∀ (H1 : Heap), hR D A (hMul h n.toNatClampNeg k.toNatClampNeg) H1 → va_S A H0 H1 locs → W p l e R s m args below meth c H1 locs (cells + 1 + n.toNatClampNeg) (slots + n.toNatClampNeg + n.toNatClampNeg * k.toNatClampNeg) Q (F0 m (pc + 4) ls (.ref (hSz h) :: rest))) : W p l e R s m args below meth c H locs cells slots Q (F0 m pc ls (.int k :: .int n :: rest)) := by
  obtain ⟨g1, g2⟩ := szB_s hn
  obtain ⟨k1, k2⟩ := szB_s hk
  intro T hT X
  obtain ⟨vm₁, cA, comp, hW, hfA, hfC, hO, hI, X1, step⟩ := X.multianewarray2F hexec (ty := .int) hown hclink (show (Cond.arrayOver (.array .int)).before args s = true from hGr.ai) harr (g := F0 m pc ls (.int k :: .int n :: rest)) rfl (by rw [hb]; exact hdg) rfl g1 k1 (Nat.le_trans (Nat.mul_le_mul_right 4 g2) (by decide)) (Nat.le_trans (Nat.mul_le_mul k2 (show componentBytes .int ≤ 4 by decide)) (by decide)) (Nat.le_trans k2 (by decide)) (by decide) (by decide) hcells hslots
  have hcA : cA = D.2 4 := Option.some.inj (hfA.symm.trans (hGr.K.2 4 _ rfl).2)
  have hcomp : comp = D.2 0 := Option.some.inj (hfC.symm.trans (hGr.K.2 0 _ rfl).2)
  subst hcA; subst hcomp
  have hz : (T.setVm vm₁).heap = H := hT
  have hsz : (T.setVm vm₁).heap.size = hSz h := by rw [hz]; exact hr.1
  have hTs : T.heap.size = hSz h := hsz
  obtain ⟨f1, f2, f3, f4⟩ := Jvm.Free.Multi.fill_facts (T.setVm vm₁) (D.2 4) (D.2 0) n.toNatClampNeg k.toNatClampNeg (defaultValue .int) n.toNatClampNeg
  have f5 := fun (x : Addr) (hx : x < (T.setVm vm₁).heap.size) => Jvm.Free.Multi.fill_old (T.setVm vm₁) (D.2 4) (D.2 0) n.toNatClampNeg k.toNatClampNeg (defaultValue .int) hx n.toNatClampNeg
  have f6 := Jvm.Free.Multi.fill_inner (T.setVm vm₁) (D.2 4) (D.2 0) n.toNatClampNeg k.toNatClampNeg (defaultValue .int) n.toNatClampNeg
  have f7 := Jvm.Free.Multi.outerC_facts (D.2 4) n.toNatClampNeg (hSz h) n.toNatClampNeg
  have f8 := Jvm.Free.Multi.outerC_slot (D.2 4) n.toNatClampNeg (hSz h) n.toNatClampNeg
  rw [hTs] at step
  generalize hU : Jvm.Free.Multi.fill (T.setVm vm₁) (D.2 4) (D.2 0) n.toNatClampNeg k.toNatClampNeg (defaultValue .int) n.toNatClampNeg = U at X1 step f1 f2 f3 f5 f6
  rw [hsz] at f1 f2 f5 f6
  rw [hz] at f5
  obtain ⟨r1, r2, r3, r4⟩ := hr
  have hnew : hR D A (hMul h n.toNatClampNeg k.toNatClampNeg) U.heap := by
    refine ⟨f1, fun q x hq => ?_, fun q x hq hl => ?_, fun q hq => r4 q (Nat.le_trans (Nat.le_trans (Nat.le_succ _) (Nat.le_add_right _ _)) hq)⟩
    · simp only [hMul] at hq
      by_cases h1 : q = hSz h
      · subst h1
        rw [if_pos rfl] at hq
        cases hq
        show U.heap[hSz h]? = some (vp_cell _ _)
        rw [f2, vp_cell_q]
        refine congrArg some (cell_arrV (outerC_eq _ _ _ _) f7.2.2 (fun j hj => ?_))
        rw [f8 j hj, if_pos hj, if_pos hj]
        rfl
      · rw [if_neg h1] at hq
        by_cases h2 : hSz h < q ∧ q ≤ hSz h + n.toNatClampNeg
        · rw [if_pos h2] at hq
          cases hq
          show U.heap[q]? = some (vp_cell _ _)
          have h3 := f6 (q - hSz h - 1) (by omega)
          rw [show hSz h + 1 + (q - hSz h - 1) = q by omega] at h3
          rw [h3, vp_cell_i]
          exact congrArg some (cell_arrV rfl (by simp [Jvm.Free.Multi.innerC]) (fun j hj => by simp [Jvm.Free.Multi.innerC, hj, defaultValue]))
        · rw [if_neg h2] at hq
          exact (r2 q x hq).kept (f5 q (by rw [← r1]; exact (r2 q x hq).lt))
    · simp only [hMul] at hq
      by_cases h1 : q = hSz h
      · subst h1; exact r4 _ (Nat.le_refl _)
      · rw [if_neg h1] at hq
        by_cases h2 : hSz h < q ∧ q ≤ hSz h + n.toNatClampNeg
        · exact r4 _ (Nat.le_of_lt h2.1)
        · rw [if_neg h2] at hq
          exact r3 q x hq hl
  have hS1 : va_S A H0 U.heap locs := ⟨Nat.le_trans hS.1 (by rw [f1, r1]; omega), fun x z1 z2 => (f5 x (by rw [← r1]; exact Nat.lt_of_lt_of_le z1 hS.1)).trans (hS.2.1 x z1 z2), hS.2.2⟩
  obtain ⟨t, a1, b1⟩ := kk U.heap hnew hS1 U rfl X1
  exact ⟨t, step t a1, b1⟩
end HRW2
