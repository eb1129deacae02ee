/-! runs of arrays copied, arrays cloned, class objects -/
def cpB (sp dp n : Int32) (n0 n1 : Nat) : Bool := !(decide (sp < 0)) && (!(decide (dp < 0)) && (!(decide (n < 0)) && (decide (sp.toNatClampNeg + n.toNatClampNeg ≤ n0) && decide (dp.toNatClampNeg + n.toNatClampNeg ≤ n1))))
theorem cpB_s {sp dp n : Int32} {n0 n1 : Nat} (h : cpB sp dp n n0 n1 = true) : ¬ sp < 0 ∧ ¬ dp < 0 ∧ ¬ n < 0 ∧ sp.toNatClampNeg + n.toNatClampNeg ≤ n0 ∧ dp.toNatClampNeg + n.toNatClampNeg ≤ n1 := by
  simp only [cpB, Bool.and_eq_true, Bool.not_eq_true', decide_eq_false_iff_not, decide_eq_true_eq] at h
  exact h
def ftB (kd : Nat) (f : Nat → Int32) (sp n : Nat) : Bool := kd == 0 || (List.range n).all (fun i => fits .byte (.int (f (sp + i))))
def cI {β : Type} (h : Hp) (kd a0 : Nat) (sp : Int32) (a : Nat) (dp n : Int32) (K : Hp → Option β) : Option β := match h.1 a0, h.1 a with
  | some (.inl (k0, n0, .inl f)), some (.inl (k1, n1, .inl g)) => if k0 = kd ∧ k1 = kd ∧ hLo h ≤ a ∧ cpB sp dp n n0 n1 = true ∧ ftB kd f sp.toNatClampNeg n.toNatClampNeg = true then K (hPut h a (.inl (kd, n1, .inl (va_cpy f g sp.toNatClampNeg dp.toNatClampNeg n.toNatClampNeg)))) else none
  | _, _ => none
theorem cI_s {β : Type} {h : Hp} {kd a0 : Nat} {sp : Int32} {a : Nat} {dp n : Int32} {K : Hp → Option β} {o : β} (e : cI h kd a0 sp a dp n K = some o) : ∃ n0 f n1 g, h.1 a0 = some (.inl (kd, n0, .inl f)) ∧ h.1 a = some (.inl (kd, n1, .inl g)) ∧ hLo h ≤ a ∧ cpB sp dp n n0 n1 = true ∧ ftB kd f sp.toNatClampNeg n.toNatClampNeg = true ∧ K (hPut h a (.inl (kd, n1, .inl (va_cpy f g sp.toNatClampNeg dp.toNatClampNeg n.toNatClampNeg)))) = some o := by
  unfold cI at e
  split at e
  · next k0 n0 f k1 n1 g h1 h2 =>
    split at e
    · next hc => obtain ⟨rfl, rfl, h3, h4, h5⟩ := hc; exact ⟨n0, f, n1, g, h1, h2, h3, h4, h5, e⟩
    · cases e
  · cases e
def elB (h : Hp) (f : Nat → Option Nat) (sp n : Nat) : Bool := (List.range n).all (fun i => match f (sp + i) with
  | none => true
  | some y => match h.1 y with
    | some (.inr (cv, _)) => okO cv
    | _ => false)
def cQ {β : Type} (h : Hp) (a0 : Nat) (sp : Int32) (a : Nat) (dp n : Int32) (K : Hp → Option β) : Option β := match h.1 a0, h.1 a with
  | some (.inl (k0, n0, .inr (.inr (.inr (.inr f))))), some (.inl (k1, n1, .inr (.inr (.inr (.inr g))))) => if k0 = 2 ∧ k1 = 2 ∧ hLo h ≤ a ∧ cpB sp dp n n0 n1 = true ∧ elB h f sp.toNatClampNeg n.toNatClampNeg = true then K (hPut h a (.inl (2, n1, .inr (.inr (.inr (.inr (va_cpy f g sp.toNatClampNeg dp.toNatClampNeg n.toNatClampNeg))))))) else none
  | _, _ => none
theorem cQ_s {β : Type} {h : Hp} {a0 : Nat} {sp : Int32} {a : Nat} {dp n : Int32} {K : Hp → Option β} {o : β} (e : cQ h a0 sp a dp n K = some o) : ∃ n0 f n1 g, h.1 a0 = some (.inl (2, n0, .inr (.inr (.inr (.inr f))))) ∧ h.1 a = some (.inl (2, n1, .inr (.inr (.inr (.inr g))))) ∧ hLo h ≤ a ∧ cpB sp dp n n0 n1 = true ∧ elB h f sp.toNatClampNeg n.toNatClampNeg = true ∧ K (hPut h a (.inl (2, n1, .inr (.inr (.inr (.inr (va_cpy f g sp.toNatClampNeg dp.toNatClampNeg n.toNatClampNeg))))))) = some o := by
  unfold cQ at e
  split at e
  · next k0 n0 f k1 n1 g h1 h2 =>
    split at e
    · next hc => obtain ⟨rfl, rfl, h3, h4, h5⟩ := hc; exact ⟨n0, f, n1, g, h1, h2, h3, h4, h5, e⟩
    · cases e
  · cases e
/-- a clone of an array of ints or bytes -/
def kA {β : Type} (h : Hp) (kd a : Nat) (K : Nat → Hp → Option β) : Option β := match h.1 a with
  | some (.inl (k0, n, .inl f)) => if k0 = kd ∧ ftB kd f 0 n = true then K (hSz h) (hNew h (.inl (kd, n, .inl f)) n) else none
  | _ => none
theorem kA_s {β : Type} {h : Hp} {kd a : Nat} {K : Nat → Hp → Option β} {o : β} (e : kA h kd a K = some o) : ∃ n f a2 h2, h.1 a = some (.inl (kd, n, .inl f)) ∧ ftB kd f 0 n = true ∧ a2 = hSz h ∧ h2 = hNew h (.inl (kd, n, .inl f)) n ∧ K a2 h2 = some o := by
  unfold kA at e
  split at e
  · next k0 n f h1 =>
    split at e
    · next hc => obtain ⟨rfl, h3⟩ := hc; exact ⟨n, f, _, _, h1, h3, rfl, rfl, e⟩
    · cases e
  · cases e
theorem mo_cI {α : Type} {h0 h : Hp} {kd a0 : Nat} {sp : Int32} {a : Nat} {dp n : Int32} {K : Hp → Option (α × Hp)} (e0 : hle h0 h) (k : ∀ h2, hle h0 h2 → Mo h0 (K h2)) : Mo h0 (cI h kd a0 sp a dp n K) := fun o q => by obtain ⟨_, _, _, _, -, -, -, -, -, e⟩ := cI_s q; exact k _ (hle_tr e0 hle_put) o e
theorem mo_cQ {α : Type} {h0 h : Hp} {a0 : Nat} {sp : Int32} {a : Nat} {dp n : Int32} {K : Hp → Option (α × Hp)} (e0 : hle h0 h) (k : ∀ h2, hle h0 h2 → Mo h0 (K h2)) : Mo h0 (cQ h a0 sp a dp n K) := fun o q => by obtain ⟨_, _, _, _, -, -, -, -, -, e⟩ := cQ_s q; exact k _ (hle_tr e0 hle_put) o e
theorem mo_kA {α : Type} {h0 h : Hp} {kd a : Nat} {K : Nat → Hp → Option (α × Hp)} (e0 : hle h0 h) (k : ∀ a2 h2, hle h0 h2 → Mo h0 (K a2 h2)) : Mo h0 (kA h kd a K) := fun o q => by obtain ⟨_, _, a2, h2, -, -, -, rfl, e⟩ := kA_s q; exact k _ _ (hle_tr e0 hle_new) o e
/-- the class of an array's cell, for a cast or its class object -/
def gA {β : Type} (h : Hp) (a kd : Nat) (K : Option β) : Option β := match h.1 a with
  | some (.inl (k0, _)) => if k0 = kd then K else none
  | _ => none
theorem gA_s {β : Type} {h : Hp} {a kd : Nat} {K : Option β} {o : β} (e : gA h a kd K = some o) : ∃ x, h.1 a = some (.inl (kd, x)) ∧ K = some o := by
  unfold gA at e
  split at e
  · next k0 x h1 =>
    split at e
    · next hc => subst hc; exact ⟨x, h1, e⟩
    · cases e
  · cases e
theorem mo_gA {α : Type} {h0 h : Hp} {a kd : Nat} {K : Option (α × Hp)} (k : Mo h0 K) : Mo h0 (gA h a kd K) := fun o q => by obtain ⟨_, -, e⟩ := gA_s q; exact k o e
section HRX
variable {p : Program} {l : Launch} {e : Env} {R : Room} {s : State} {m : MethodId} {args : Array Value} {below : List Frame} {meth : Method} {c : Code} {H : Heap} {locs : List Loc} {cells slots : Nat} {Q : State → Prop}
variable {cc : ByteArray} {pc : Nat} {ls : Array Slot} {rest : List Value} {D : HD} {A : Nat → Prop} {a : Nat} {H0 : Heap} {h : Hp}
theorem i32nn {z : Int32} (hz : ¬ z < 0) : z.toInt = (z.toNatClampNeg : Int) := by
  have hz0 : (0 : Int) ≤ z.toInt := by
    have := Int32.not_lt.mp hz
    simpa using Int32.le_iff_toInt_le.mp this
  show z.toInt = ((z.toInt.toNat : Nat) : Int)
  omega
theorem h_copyi (hexec : p.tables.exec = Jvm.exec) (hb : c.code = cc) (hml : c.maxLocals = ls.size) {own : String} {index : Nat} (hown : s.vm.findClass own = some m.cls) (hlink : (Cond.methodLink own index arraycopyName).before args s = true) (hnat : (Cond.native arraycopyName).before args s = true) (hstat : (Cond.static arraycopyName).before args s = true) (hini : (Cond.initialized "java/lang/System").before args s = true) (hGr : hG D A s s.heap) (hr : hR D A h H) (hS : va_S A H0 H locs) (kd : Nat) (hkd : kd = 0 ∨ kd = 1) {a0 n0 n1 : Nat} {f g : Nat → Int32} (ha0 : h.1 a0 = some (.inl (kd, n0, .inl f))) (ha1 : h.1 a = some (.inl (kd, n1, .inl g))) (hlo : hLo h ≤ a) {sp dp n : Int32} (hcp : cpB sp dp n n0 n1 = true) (hft : ftB kd f sp.toNatClampNeg n.toNatClampNeg = true)
    (hframes : 1 ≤ R.frames) (hlocals : (rest.map fun v => v.category).sum + (nativeFrameWords "java/lang/System" "arraycopy" 5 + 11) ≤ R.locals) (hdg : decode cc pc = .ok (.invokestatic index, 3))
    (kk : ∀ (H1 : Heap) (locs1 : List Loc), hR D A (hPut h a (.inl (kd, n1, .inl (va_cpy f g sp.toNatClampNeg dp.toNatClampNeg n.toNatClampNeg)))) H1 → va_S A H0 H1 locs1 → W p l e R s m args below meth c H1 locs1 cells slots Q (F0 m (pc + 3) ls rest)) : W p l e R s m args below meth c H locs cells slots Q (F0 m pc ls (.int n :: .int dp :: .ref a :: .int sp :: .ref a0 :: rest)) := by
  obtain ⟨h1, h2, h3, h4, h5⟩ := cpB_s hcp
  obtain ⟨ty, htk, hprim, hfit⟩ : ∃ ty, (tyL D.2)[kd]? = some (D.2 kd, ty) ∧ refKind ty = false ∧ ∀ i, i < n.toNatClampNeg → fits ty (.int (f (sp.toNatClampNeg + i))) = true := by
    rcases hkd with rfl | rfl
    · exact ⟨.int, rfl, rfl, fun _ _ => rfl⟩
    · refine ⟨.byte, rfl, rfl, fun i hi => ?_⟩
      have h9 : (List.range n.toNatClampNeg).all (fun i => fits .byte (.int (f (sp.toNatClampNeg + i)))) = true := by simpa [ftB] using hft
      exact List.all_eq_true.mp h9 i (List.mem_range.mpr hi)
  intro T hT X
  have hc0 : H[a0]? = some (vp_cell (D.2 kd) (n0, .inl f)) := hr.at_a ha0
  have hc1 : H[a]? = some (vp_cell (D.2 kd) (n1, .inl g)) := hr.at_a ha1
  obtain ⟨-, k0, hk0, cm0, hkk0⟩ := (hGr.K.2 kd _ htk).1 n0 (fun j => .int (f j))
  obtain ⟨-, k1, hk1, cm1, hkk1⟩ := (hGr.K.2 kd _ htk).1 n1 (fun j => .int (g j))
  obtain ⟨vm', X', step⟩ := X.arraycopy hexec hown hlink hnat hstat hini (src := a0) (dst := a) (cs := vp_cell (D.2 kd) (n0, .inl f)) (cd := vp_cell (D.2 kd) (n1, .inl g)) (srcPos := sp) (destPos := dp) (n := n) (by rw [hT]; exact hc0) (by rw [hT]; exact hc1)
    (fun _ h => by cases h) (fun _ h => by cases h) (fun h => by cases h) (fun h => by cases h) hk0 hk1 hkk0 hkk1 (by simp [hprim]) h1 h2 h3
    (by rw [i32nn h1, i32nn h3]; show ¬ _ > ((arrV (D.2 kd) n0 (fun j => .int (f j))).slots.size : Int); rw [arrV_size]; omega)
    (by rw [i32nn h2, i32nn h3]; show ¬ _ > ((arrV (D.2 kd) n1 (fun j => .int (g j))).slots.size : Int); rw [arrV_size]; omega)
    (fun vm₁ _ i hi => by
      have e : (vp_cell (D.2 kd) (n0, .inl f)).slots.getD (sp.toNatClampNeg + i) .null = .int (f (sp.toNatClampNeg + i)) := by
        show (arrV (D.2 kd) n0 (fun j => .int (f j))).slots.getD _ _ = _
        rw [Array.getD_eq_getD_getElem?, arrV_read _ _ (by omega)]
        rfl
      refine ⟨?_, ?_⟩
      · rw [e]
        exact hfit i hi
      · rw [e]
        exact trivial)
    (g := F0 m pc ls (.int n :: .int dp :: .ref a :: .int sp :: .ref a0 :: rest)) rfl (by rw [hml]) (rest := rest) rfl (by rw [hb]; exact hdg) hframes (by show 2 * 0 + _ + _ ≤ _; omega)
  have e1 : copied (vp_cell (D.2 kd) (n0, .inl f)) (vp_cell (D.2 kd) (n1, .inl g)) sp dp n = vp_cell (D.2 kd) (n1, .inl (va_cpy f g sp.toNatClampNeg dp.toNatClampNeg n.toNatClampNeg)) := va_copied (fun z => .int z) (D.2 kd) (D.2 kd) f g h4
  rw [e1] at X' step
  have hl : a < H.size := (Array.getElem?_eq_some_iff.mp hc1).1
  have hheap : ((T.setVm vm').setCell a (vp_cell (D.2 kd) (n1, .inl (va_cpy f g sp.toNatClampNeg dp.toNatClampNeg n.toNatClampNeg)))).heap = H.setIfInBounds a (vp_cell (D.2 kd) (n1, .inl (va_cpy f g sp.toNatClampNeg dp.toNatClampNeg n.toNatClampNeg))) := by rw [← hT]; rfl
  have oq : ∀ q : Nat, q ≠ a → (H.setIfInBounds a (vp_cell (D.2 kd) (n1, .inl (va_cpy f g sp.toNatClampNeg dp.toNatClampNeg n.toNatClampNeg))))[q]? = H[q]? := fun q hq => by simp [Array.getElem?_setIfInBounds, Ne.symm hq]
  obtain ⟨t, a1, b1⟩ := kk _ _ (hr.put ha1 (show (H.setIfInBounds a _)[a]? = some _ by simp [Array.getElem?_setIfInBounds, hl]) (by simp) oq) ⟨by simp; exact hS.1, fun q g1 g2 => by
      rw [oq q (fun e => g2 (by rw [e]; exact hr.2.2.1 _ _ ha1 hlo))]
      exact hS.2.1 q g1 g2, fun q hq => by
      rcases List.mem_append.mp hq with h | h
      · exact hS.2.2 q h
      · obtain ⟨z, -, hz⟩ := List.mem_map.mp h
        rw [← hz]
        exact hr.2.2.1 _ _ ha1 hlo⟩ _ hheap X'
  exact ⟨t, step t a1, b1⟩
theorem ok_asg {D : HD} {A : Nat → Prop} {h : Hp} {s : State} {H : Heap} (hGr : hG D A s s.heap) (hr : hR D A h H) {v cv : Nat} {fv : List Value} (hv : h.1 v = some (.inr (cv, fv))) (hok : okO cv = true) : ∃ (cellV : Cell) (c0 : ClassId) (C : String), H[v]? = some cellV ∧ cellV.vm.isStatics = false ∧ s.vm.findClass C = some cellV.cls ∧ ∀ comp, s.vm.findClass "java/lang/Object" = some comp → s.vm.assignable cellV.cls comp = true := by
  have hcv : cv = 2 ∨ cv = 7 ∨ cv = 8 := by
    simp only [okO, Bool.or_eq_true, beq_iff_eq] at hok
    rcases hok with (h | h) | h
    · exact Or.inl h
    · exact Or.inr (Or.inl h)
    · exact Or.inr (Or.inr h)
  obtain ⟨r', hr', cellV, g1, g2, g3, -⟩ := hr.at_o hv (by rcases hcv with rfl | rfl | rfl <;> decide)
  have hcls : ClassAt s r'.1 (D.1.1 cv) := (hGr.K.1 cv r' hr').2
  refine ⟨cellV, D.1.1 cv, r'.1, g1, by rw [g3]; rfl, by rw [g2]; exact hcls.1, fun comp hcomp => ?_⟩
  have hca : va_Nw (.castable r'.1 "java/lang/Object") s := by
    rcases hcv with rfl | rfl | rfl <;> cases hr'
    · exact hGr.nw q2512 rfl
    · exact hGr.nw q2534 rfl
    · exact hGr.nw q2535 rfl
  obtain ⟨c0, t0, f1, f2, f3⟩ := Cond.castable_spec hca
  cases hcls.1.symm.trans f1
  cases hcomp.symm.trans f2
  rw [g2]
  exact f3
theorem h_copyq (hexec : p.tables.exec = Jvm.exec) (hb : c.code = cc) (hml : c.maxLocals = ls.size) {own : String} {index : Nat} (hown : s.vm.findClass own = some m.cls) (hlink : (Cond.methodLink own index arraycopyName).before args s = true) (hnat : (Cond.native arraycopyName).before args s = true) (hstat : (Cond.static arraycopyName).before args s = true) (hini : (Cond.initialized "java/lang/System").before args s = true) (hGr : hG D A s s.heap) (hr : hR D A h H) (hS : va_S A H0 H locs) {a0 n0 n1 : Nat} {f g : Nat → Option Nat} (ha0 : h.1 a0 = some (.inl (2, n0, .inr (.inr (.inr (.inr f)))))) (ha1 : h.1 a = some (.inl (2, n1, .inr (.inr (.inr (.inr g)))))) (hlo : hLo h ≤ a) {sp dp n : Int32} (hcp : cpB sp dp n n0 n1 = true) (hel : elB h f sp.toNatClampNeg n.toNatClampNeg = true)
    (hframes : 1 ≤ R.frames) (hlocals : (rest.map fun v => v.category).sum + (nativeFrameWords "java/lang/System" "arraycopy" 5 + 11) ≤ R.locals) (hdg : decode cc pc = .ok (.invokestatic index, 3))
    (kk : ∀ (H1 : Heap) (locs1 : List Loc), hR D A (hPut h a (.inl (2, n1, .inr (.inr (.inr (.inr (va_cpy f g sp.toNatClampNeg dp.toNatClampNeg n.toNatClampNeg))))))) H1 → va_S A H0 H1 locs1 → W p l e R s m args below meth c H1 locs1 cells slots Q (F0 m (pc + 3) ls rest)) : W p l e R s m args below meth c H locs cells slots Q (F0 m pc ls (.int n :: .int dp :: .ref a :: .int sp :: .ref a0 :: rest)) := by
  obtain ⟨h1, h2, h3, h4, h5⟩ := cpB_s hcp
  have hc0 : H[a0]? = some (vp_cell (D.2 2) (n0, .inr (.inr (.inr (.inr f))))) := hr.at_a ha0
  have hc1 : H[a]? = some (vp_cell (D.2 2) (n1, .inr (.inr (.inr (.inr g))))) := hr.at_a ha1
  intro T hT X
  obtain ⟨-, k0, hk0, cm0, hkk0⟩ := (hGr.K.2 2 _ rfl).1 n0 (fun j => va_rf (f j))
  obtain ⟨-, k1, hk1, cm1, hkk1⟩ := (hGr.K.2 2 _ rfl).1 n1 (fun j => va_rf (g j))
  obtain ⟨vm', X', step⟩ := X.arraycopy hexec hown hlink hnat hstat hini (src := a0) (dst := a) (cs := vp_cell (D.2 2) (n0, .inr (.inr (.inr (.inr f))))) (cd := vp_cell (D.2 2) (n1, .inr (.inr (.inr (.inr g))))) (srcPos := sp) (destPos := dp) (n := n) (by rw [hT]; exact hc0) (by rw [hT]; exact hc1)
    (fun _ h => by cases h) (fun _ h => by cases h) (fun h => by cases h) (fun h => by cases h) hk0 hk1 hkk0 hkk1 rfl h1 h2 h3
    (by rw [i32nn h1, i32nn h3]; show ¬ _ > ((arrV (D.2 2) n0 (fun j => va_rf (f j))).slots.size : Int); rw [arrV_size]; omega)
    (by rw [i32nn h2, i32nn h3]; show ¬ _ > ((arrV (D.2 2) n1 (fun j => va_rf (g j))).slots.size : Int); rw [arrV_size]; omega)
    (fun vm₁ hal i hi => by
      have e : (vp_cell (D.2 2) (n0, .inr (.inr (.inr (.inr f))))).slots.getD (sp.toNatClampNeg + i) .null = va_rf (f (sp.toNatClampNeg + i)) := by
        show (arrV (D.2 2) n0 (fun j => va_rf (f j))).slots.getD _ _ = _
        rw [Array.getD_eq_getD_getElem?, arrV_read _ _ (by omega)]
        rfl
      rw [e]
      have hei := List.all_eq_true.mp hel i (List.mem_range.mpr hi)
      cases hy : f (sp.toNatClampNeg + i) with
      | none => exact ⟨rfl, trivial⟩
      | some y =>
        rw [hy] at hei
        obtain ⟨cv, fv, hv, hok⟩ : ∃ cv fv, h.1 y = some (.inr (cv, fv)) ∧ okO cv = true := by
          simp only at hei
          split at hei
          · next cv fv hv => exact ⟨cv, fv, hv, hei⟩
          · cases hei
        obtain ⟨cellV, c0, C, g1, g2, g3, g4⟩ := ok_asg hGr hr hv hok
        obtain ⟨kA, comp, r1, r2, r3, -⟩ := (hGr.K.2 2 _ rfl).2
        cases hk1.symm.trans r1
        cases hkk1.symm.trans r2
        obtain ⟨kC, hkC, -⟩ := Vm.findClass_spec g3
        obtain ⟨kE, hkE, -⟩ := Vm.findClass_spec r3
        obtain ⟨kC', hkC', -⟩ := hal.2.2 _ _ hkC
        obtain ⟨kE', hkE', -⟩ := hal.2.2 _ _ hkE
        refine ⟨rfl, cellV, (show T.heap[y]? = some cellV by rw [hT]; exact g1), (fun q h => by rw [h] at g2; cases g2), ⟨kC', hkC'⟩, ?_, ?_⟩
        · exact ⟨kE', hkE'⟩
        · show vm₁.assignable _ _ = true
          rw [hal.assignable]
          exact g4 _ r3)
    (g := F0 m pc ls (.int n :: .int dp :: .ref a :: .int sp :: .ref a0 :: rest)) rfl (by rw [hml]) (rest := rest) rfl (by rw [hb]; exact hdg) hframes (by show 2 * 0 + _ + _ ≤ _; omega)
  have e1 : copied (vp_cell (D.2 2) (n0, .inr (.inr (.inr (.inr f))))) (vp_cell (D.2 2) (n1, .inr (.inr (.inr (.inr g))))) sp dp n = vp_cell (D.2 2) (n1, .inr (.inr (.inr (.inr (va_cpy f g sp.toNatClampNeg dp.toNatClampNeg n.toNatClampNeg))))) := by
    rw [vp_cell_q, vp_cell_q, vp_cell_q]
    exact va_copied (fun z => va_rf z) (D.2 2) (D.2 2) f g h4
  rw [e1] at X' step
  have hl : a < H.size := (Array.getElem?_eq_some_iff.mp hc1).1
  have hheap : ((T.setVm vm').setCell a (vp_cell (D.2 2) (n1, .inr (.inr (.inr (.inr (va_cpy f g sp.toNatClampNeg dp.toNatClampNeg n.toNatClampNeg))))))).heap = H.setIfInBounds a (vp_cell (D.2 2) (n1, .inr (.inr (.inr (.inr (va_cpy f g sp.toNatClampNeg dp.toNatClampNeg n.toNatClampNeg)))))) := by rw [← hT]; rfl
  have oq : ∀ q : Nat, q ≠ a → (H.setIfInBounds a (vp_cell (D.2 2) (n1, .inr (.inr (.inr (.inr (va_cpy f g sp.toNatClampNeg dp.toNatClampNeg n.toNatClampNeg)))))))[q]? = H[q]? := fun q hq => by simp [Array.getElem?_setIfInBounds, Ne.symm hq]
  obtain ⟨t, a1, b1⟩ := kk _ _ (hr.put ha1 (show (H.setIfInBounds a _)[a]? = some _ by simp [Array.getElem?_setIfInBounds, hl]) (by simp) oq) ⟨by simp; exact hS.1, fun q g1 g2 => by
      rw [oq q (fun e => g2 (by rw [e]; exact hr.2.2.1 _ _ ha1 hlo))]
      exact hS.2.1 q g1 g2, fun q hq => by
      rcases List.mem_append.mp hq with h | h
      · exact hS.2.2 q h
      · obtain ⟨z, -, hz⟩ := List.mem_map.mp h
        rw [← hz]
        exact hr.2.2.1 _ _ ha1 hlo⟩ _ hheap X'
  exact ⟨t, step t a1, b1⟩
theorem h_clone (hexec : p.tables.exec = Jvm.exec) (hb : c.code = cc) (hml : c.maxLocals = ls.size) {own ad : String} {index : Nat} (hown : s.vm.findClass own = some m.cls)
    (hlink : (Cond.methodLink own index ⟨ad, "clone", "()Ljava/lang/Object;"⟩).before args s = true) (hsame : (Cond.sameMethod ad "java/lang/Object" "clone" "()Ljava/lang/Object;").before args s = true)
    (hnat : (Cond.native ⟨"java/lang/Object", "clone", "()Ljava/lang/Object;"⟩).before args s = true) (hinst : (Cond.instanceMethod ⟨"java/lang/Object", "clone", "()Ljava/lang/Object;"⟩).before args s = true)
    (hsel : (Cond.selects ad ⟨ad, "clone", "()Ljava/lang/Object;"⟩ ⟨"java/lang/Object", "clone", "()Ljava/lang/Object;"⟩).before args s = true) (hcl : va_Nw (.castable ad "java/lang/Cloneable") s)
    (hGr : hG D A s s.heap) (hr : hR D A h H) (hS : va_S A H0 H locs) (kd : Nat) (hkd : kd = 0 ∨ kd = 1) {n : Nat} {f : Nat → Int32} (ha : h.1 a = some (.inl (kd, n, .inl f))) (hft : ftB kd f 0 n = true) (hnm : s.vm.findClass ad = some (D.2 kd))
    (hframes : 1 ≤ R.frames) (hlocals : (rest.map fun v => v.category).sum + 14 ≤ R.locals) (hcells : cells + 1 ≤ R.cells) (hslots : slots + n ≤ R.slots) (hdg : decode cc pc = .ok (.invokevirtual index, 3))
    (kk : ∀ (H1 : Heap), hR D A (hNew h (.inl (kd, n, .inl f)) n) H1 → va_S A H0 H1 locs → W p l e R s m args below meth c H1 locs (cells + 1) (slots + n) Q (F0 m (pc + 3) ls (.ref (hSz h) :: rest))) : W p l e R s m args below meth c H locs cells slots Q (F0 m pc ls (.ref a :: rest)) := by
  obtain ⟨ty, ht, hfit⟩ : ∃ ty, (tyL D.2)[kd]? = some (D.2 kd, ty) ∧ ∀ (i : Nat) (v : Value), (vp_cell (D.2 kd) (n, .inl f)).slots[i]? = some v → fits ty v = true := by
    rcases hkd with rfl | rfl
    · refine ⟨.int, rfl, fun i v hv => ?_⟩
      have hv : (arrV (D.2 0) n (fun j => .int (f j))).slots[i]? = some v := hv
      have hi : i < n := by have := (Array.getElem?_eq_some_iff.mp hv).1; rwa [arrV_size] at this
      rw [arrV_read _ _ hi] at hv
      cases hv
      rfl
    · refine ⟨.byte, rfl, fun i v hv => ?_⟩
      have hv : (arrV (D.2 1) n (fun j => .int (f j))).slots[i]? = some v := hv
      have hi : i < n := by have := (Array.getElem?_eq_some_iff.mp hv).1; rwa [arrV_size] at this
      rw [arrV_read _ _ hi] at hv
      cases hv
      have h9 : (List.range n).all (fun i => fits .byte (.int (f (0 + i)))) = true := by simpa [ftB] using hft
      have := List.all_eq_true.mp h9 i (List.mem_range.mpr hi)
      simpa using this
  have hsz : (vp_cell (D.2 kd) (n, .inl f)).slots.size = n := arrV_size _ _ _
  obtain ⟨c0, t0', f1, f2, f3⟩ := Cond.castable_spec (va_Nw.use (A := args) rfl hcl)
  cases hnm.symm.trans f1
  intro T hT X
  have hcellT : T.heap[a]? = some (vp_cell (D.2 kd) (n, .inl f)) := by rw [hT]; exact hr.at_a ha
  obtain ⟨-, kA, hkA, comp, hkind⟩ := State.isArrayOf_alike X.warmed.alike ((hGr.K.2 kd _ ht).1 0 (fun _ => .null))
  obtain ⟨-, kS, hkS, compS, hkindS⟩ := (hGr.K.2 kd _ ht).1 0 (fun _ => .null)
  obtain ⟨vm', X', st⟩ := X.cloneArray hexec hown hlink hsame hnat hinst hsel (a := a) (cell := vp_cell (D.2 kd) (n, .inl f)) hcellT (fun k h => by cases h) (fun h => by cases h) hnm f2 f3
    (fun i v hv => by
      have hk' : T.vm.classes[D.2 kd]? = some kA := hkA
      simpa [State.fitsSlot, State.slotType?, vp_cell_i, arrV, hk', hkind] using hfit i v hv)
    (g := F0 m pc ls (.ref a :: rest)) rfl (by rw [hml]) rfl (by rw [hb]; exact hdg) hframes (by show 2 * 0 + _ + 14 ≤ _; omega) hcells (by rw [hsz]; exact hslots) (hloader := Vm.clonesLoader_of_array hkS hkindS)
  have hcellE : ({ cls := (vp_cell (D.2 kd) (n, .inl f)).cls, slots := (vp_cell (D.2 kd) (n, .inl f)).slots } : Cell) = vp_cell (D.2 kd) (n, .inl f) := rfl
  rw [hcellE, hsz] at X'
  generalize hH1 : H.push (vp_cell (D.2 kd) (n, .inl f)) = H1
  have z1 : H1.size = H.size + 1 := by rw [← hH1, Array.size_push]
  have e1 : H1[H.size]? = some (vp_cell (D.2 kd) (n, .inl f)) := by rw [← hH1, Array.getElem?_push_size]
  have o1 : ∀ q : Nat, q < H.size → H1[q]? = H[q]? := fun q hq => by rw [← hH1, Array.getElem?_push, if_neg (Nat.ne_of_lt hq)]
  have hz := hr.1
  rw [hz] at e1
  obtain ⟨t, b1, b2⟩ := kk H1 (hr.new e1 z1 o1) (h_mv hS z1 o1) ((T.setVm vm').pushCell (vp_cell (D.2 kd) (n, .inl f))) (by rw [← hH1, ← hT]; rfl) X'
  refine ⟨t, st t ?_, b2⟩
  rw [hcellE, hT, hz]
  exact b1
theorem h_castA (hexec : p.tables.exec = Jvm.exec) (hb : c.code = cc) {own nm : String} {index : Nat} (hown : s.vm.findClass own = some m.cls) (hlink : (Cond.classLink own index nm).before args s = true) (hr : hR D A h H) {kd : Nat} {x : vp_A} (ha : h.1 a = some (.inl (kd, x))) (hnm : s.vm.findClass nm = some (D.2 kd)) (hdg : decode cc pc = .ok (.checkcast index, 3))
    (k : W p l e R s m args below meth c H locs cells slots Q (F0 m (pc + 3) ls (.ref a :: rest))) : W p l e R s m args below meth c H locs cells slots Q (F0 m pc ls (.ref a :: rest)) :=
  va_castA hexec hb hown hlink (va_P1 (D := D.1) (cl := vwCl) (q := (a, .inl (D.2 kd, x))) (hr.at_a ha)) 0 rfl hnm hdg k
theorem h_nmI (hGr : hG D A s s.heap) : s.vm.findClass "[I" = some (D.2 0) := (hGr.K.2 0 _ rfl).2
theorem h_nmB (hGr : hG D A s s.heap) : s.vm.findClass "[B" = some (D.2 1) := (hGr.K.2 1 _ rfl).2
theorem h_nmO (hGr : hG D A s s.heap) : s.vm.findClass "[Ljava/lang/Object;" = some (D.2 2) := by
  obtain ⟨kA, comp, -, -, -, h⟩ := (hGr.K.2 2 _ rfl).2
  exact h
theorem h_recvA (hGr : hG D A s s.heap) (hr : hR D A h H) {x : vp_A} (ha : h.1 a = some (.inl (2, x))) : ∃ cell : Cell, H[a]? = some cell ∧ cell.vm.isStatics = false ∧ s.vm.findClass "[Ljava/lang/Object;" = some cell.cls := by
  refine ⟨_, hr.at_a ha, ?_, ?_⟩
  · obtain ⟨n, f | f | f | f | f⟩ := x <;> rfl
  · rw [h_nmO hGr]
    obtain ⟨n, f | f | f | f | f⟩ := x <;> rfl
end HRX
