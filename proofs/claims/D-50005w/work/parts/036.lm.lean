/-! the lambdas: their classes' files, the objects made at the sites, the calls of Cell.at -/
def lmNo : ClassFile := { minorVersion := 0, majorVersion := 0, constantPool := #[], accessFlags := 0, thisClass := 0, superClass := 0, interfaces := #[], fields := #[], methods := #[], attributes := #[] }
def lmF (k : Nat) : ClassFile := ((lmS k).file "ExactChains$Process").getD lmNo
def lmFw (k : Nat) : Method := ((layoutMethods (lmF k)).bind (·[1]?)).getD default
def lmLd (k : Nat) : Array Field × Array FieldType × Array FieldType := (layoutFields (lmF k) 0).getD (#[], #[], #[])
def lmB (k : Nat) : ByteArray := match k with
  | 0 => ⟨#[0x2a, 0xb4, 0x00, 0x13, 0x2a, 0xb4, 0x00, 0x15, 0x2a, 0xb4, 0x00, 0x17, 0x2a, 0xb4, 0x00, 0x19, 0x1b, 0x1c, 0xb6, 0x00, 0x21, 0xac]⟩
  | 1 => ⟨#[0x2a, 0xb4, 0x00, 0x0f, 0x1b, 0x1c, 0xb6, 0x00, 0x16, 0xac]⟩
  | _ => ⟨#[0x2a, 0xb4, 0x00, 0x11, 0x2a, 0xb4, 0x00, 0x13, 0x1b, 0x1c, 0xb6, 0x00, 0x1b, 0xac]⟩
def lmM (k : Nat) : Nat := match k with | 0 => 33 | 1 => 22 | _ => 27
def lmC (k : Nat) : Nat := match k with | 0 => 29 | 1 => 19 | _ => 23
def lmFi (k j : Nat) : Nat := match k with | 0 => 19 + 2 * j | 1 => 15 | _ => 17 + 2 * j
def lmA (k : Nat) : Nat := match k with | 0 => 4 | 1 => 1 | _ => 2
def lmY (k : Nat) : MethodName := match k with | 0 => yX2_lambda_sets_0 | 1 => yX2_lambda_projected_1 | 2 => yX2_lambda_lessUnit_2 | _ => yX2_lambda_solution_3
def lmAt : MethodName := ⟨"ExactChains$Cell", "at", "(II)I"⟩
theorem lm_file : ∀ k, k < 4 → ((lmS k).file "ExactChains$Process").isSome = true := by decide +kernel
theorem lm_file_is {k : Nat} (hk : k < 4) : (lmS k).file "ExactChains$Process" = some (lmF k) := by
  obtain ⟨x, hx⟩ := Option.isSome_iff_exists.mp (lm_file k hk)
  simp [lmF, hx]
theorem lm_second : ∀ k, k < 4 → ((layoutMethods (lmF k)).bind (·[1]?)).isSome = true := by decide +kernel
theorem lm_second_is {k : Nat} (hk : k < 4) : ∀ ms, layoutMethods (lmF k) = some ms → ms[1]? = some (lmFw k) := by
  intro ms hms
  obtain ⟨x, hx⟩ := Option.isSome_iff_exists.mp (lm_second k hk)
  have hf : lmFw k = x := by simp [lmFw, hx]
  rw [hms] at hx
  rw [hf]
  exact hx
theorem lm_laid : ∀ k, k < 4 → (layoutFields (lmF k) 0).isSome = true := by decide +kernel
theorem lm_laid_is {k : Nat} (hk : k < 4) : layoutFields (lmF k) 0 = some (lmLd k) := by
  obtain ⟨x, hx⟩ := Option.isSome_iff_exists.mp (lm_laid k hk)
  simp [lmLd, hx]
theorem lm_code : ∀ k, k < 4 → (lmFw k).code.map (fun (c : Code) => (c.code.data, c.maxLocals)) = some ((lmB k).data, 3) := by decide +kernel
theorem lm_flags : ∀ k, k < 4 → ((lmFw k).accessFlags, (lmFw k).name, (lmFw k).sig.returnType) = (0x0001, "at", (some .int : Option FieldType)) := by decide +kernel
theorem lm_eM : ∀ k, k < 4 → (lmF k).constantPool[lmM k]? = some (.methodref (lmC k) (lmM k - 1)) ∧ (lmF k).constantPool.className? (lmC k) = some "ExactChains$Process" ∧ (lmF k).constantPool.nameAndType? (lmM k - 1) = some ((lmS k).implName, (lmS k).implDesc.toString) := by decide +kernel
theorem lm_eC : ∀ k, k < 4 → (lmF k).constantPool[lmC k]? = some (.class_ (lmC k - 1)) ∧ (lmF k).constantPool.string? (lmC k - 1) = some "ExactChains$Process" ∧ lmC k ≠ (lmF k).thisClass := by decide +kernel
def lmT (k j : Nat) : FieldType := ((lmS k).captured[j]?).getD .int
def lmG (j : Nat) : String := match j with | 0 => "arg$1" | 1 => "arg$2" | 2 => "arg$3" | _ => "arg$4"
theorem lm_eF : ∀ k, k < 4 → ∀ j, j < lmA k → (lmF k).constantPool[lmFi k j]? = some (.fieldref 2 (lmFi k j - 1)) ∧ (lmF k).constantPool.nameAndType? (lmFi k j - 1) = some (lmG j, (lmT k j).toString) ∧ (lmLd k).1.findIdx? (·.name == lmG j) = some j ∧ ((lmLd k).1[j]?).map (fun f => (f.isStatic, f.slot)) = some (false, j) := by decide +kernel
theorem lm_types : ∀ k, k < 4 → (lmLd k).2.1 = (lmS k).captured.toArray := by decide +kernel
theorem lm_impl : ∀ k, k < 4 → (lmS k).implName = (lmY k).name ∧ (lmS k).implDesc.toString = (lmY k).desc ∧ (lmY k).cls = "ExactChains$Process" ∧ (lmS k).implClass = "ExactChains$Process" ∧ (lmS k).iface = lmAt.cls ∧ (lmS k).name = lmAt.name ∧ (lmS k).sam.toString = lmAt.desc ∧ (lmX k).cls = "ExactChains$Process" ∧ (lmS k).captured ≠ [] ∧ ((lmY k).cls ≠ "java/lang/invoke/MethodHandle" ∧ (lmY k).cls ≠ "java/lang/invoke/VarHandle") := by decide +kernel
/-- what the walk of a lambda's object asks of its class -/
def LmK (vm : Vm) (c : ClassId) (k : Nat) : Prop := ∃ (kK tk : Class) (methk : Method) (ck : Code) (toy : ClassId) (t : MethodId) (file : ClassFile),
  vm.classes[c]? = some kK ∧ kK.name = "ExactChains$Process$$Lambda" ∧ kK.cf = some file ∧ file.constantPool = (lmF k).constantPool ∧
  vm.method? ⟨c, 1⟩ = some methk ∧ methk.code = some ck ∧ ck.code = lmB k ∧ ck.maxLocals = 3 ∧ methk.locks = false ∧ methk.accessFlags = 0x0001 ∧ methk.sig.returnType = some .int ∧
  vm.findClass "ExactChains$Process" = some toy ∧ vm.classes[toy]? = some tk ∧ tk.isInterface = false ∧ ((methodIn toy (lmS k).implName (lmS k).implDesc.toString tk.isInterface none).ask { classPath := fun _ => none } vm).1 = .ok t ∧
  vm.methodReady c (lmM k) t ∧ vm.classReady c (lmC k) toy ∧ (∀ j, j < lmA k → ∃ f, vm.fieldReady c (lmFi k j) c f ∧ f.isStatic = false ∧ f.slot = j) ∧ kK.instanceTypes = (lmS k).captured.toArray ∧ kK.kind = .ordinary
theorem lm_made {vm : Vm} {d c : ClassId} {dk : Class} {k : Nat} (hk4 : k < 4) (hd : vm.classes[d]? = some dk) (hname : dk.name = "ExactChains$Process") (h : Lambda.isMade { classPath := fun _ => none } vm d (lmS k) c = true)
    (hO : ∀ o ok, vm.findClass "java/lang/Object" = some o → vm.classes[o]? = some ok → ok.instanceTypes.size = 0) : LmK vm c k := by
  obtain ⟨dk', kK, ok, tk, file, cf, object, iface, toy, lay, methods, target, found, hd', hk, hfile, hcf, hobj, -, hok, hlay, hms, ht, htk, hg, -, hrec, -, -, -, hitf, hpool, hmeth, hfields, hty, hres, -⟩ := Lambda.isMade_spec h
  cases hd.symm.trans hd'
  obtain ⟨i1, i2, i3, i4, -⟩ := lm_impl k hk4
  rw [hname, lm_file_is hk4] at hcf
  cases hcf
  have hok0 : ok.instanceTypes = #[] := Array.eq_empty_of_size_eq_zero (hO object ok hobj hok)
  rw [hO object ok hobj hok, lm_laid_is hk4] at hlay
  cases hlay
  obtain ⟨b, hb, hsame⟩ := hmeth 1 (lmFw k) (lm_second_is hk4 methods hms)
  simp only [Lambda.sameMethod, Bool.and_eq_true, decide_eq_true_eq] at hsame
  obtain ⟨⟨hn, -, hsig, hfl⟩, hcode⟩ := hsame
  have fc := lm_code k hk4
  have ff := lm_flags k hk4
  simp only [Prod.mk.injEq] at ff
  have hi : tk.isInterface = false := by
    rw [hitf]
    have : ∀ k, k < 4 → (lmS k).implItf = false := by decide +kernel
    exact this k hk4
  cases hfc : (lmFw k).code with
  | none => rw [hfc] at fc; cases fc
  | some x =>
    cases hbc : b.code with
    | none => simp [hfc, hbc] at hcode
    | some y =>
      simp only [hfc, hbc, Bool.and_eq_true, decide_eq_true_eq] at hcode
      simp only [hfc, Option.map_some, Option.some.injEq, Prod.mk.injEq] at fc
      rw [i4] at ht
      refine ⟨kK, tk, b, y, toy, target, file, hk, by rw [hrec.1, hname]; rfl, hfile, hpool.2.1, by simp [Vm.method?, hk, hb], hbc, ?_, by rw [← hcode.1.1.1.1.2.1]; exact fc.2, ?_, by rw [← hfl]; exact ff.1, by rw [← hsig]; exact ff.2.2, ht, htk, hi, hg,
        ⟨kK, hk, hres (lmM k) _ (Lambda.resolvedOf_method (lm_eM k hk4).1 (lm_eM k hk4).2.1 ht htk (lm_eM k hk4).2.2 hg)⟩, ⟨kK, hk, hres (lmC k) _ (Lambda.resolvedOf_class (lm_eC k hk4).1 (lm_eC k hk4).2.2 (lm_eC k hk4).2.1 ht)⟩,
        fun j hj => ?_, by rw [hty.1, hok0, lm_types k hk4]; simp, hrec.2.1⟩
      · rw [← hcode.1.1.1.1.2.2]
        exact ByteArray.ext fc.1
      · simp [Method.locks, Method.isSynchronized, ← hfl, ff.1, hasFlag, Acc.synchronized]
      · obtain ⟨e1, e2, e3, e4⟩ := lm_eF k hk4 j hj
        obtain ⟨g0, hg0, hp0⟩ := Option.map_eq_some_iff.mp e4
        simp only [Prod.mk.injEq] at hp0
        exact ⟨g0, ⟨kK, j, kK, hk, hres (lmFi k j) _ (Lambda.resolvedOf_field e1 e2 e3), hk, hfields j _ hg0⟩, hp0.1, hp0.2⟩
/-- .. of the site's word -/
theorem lm_facts {s : State} {args : Array Value} {k : Nat} {c : ClassId} (hk4 : k < 4) (h : s.lambdaAt? (lmX k) (lmP k) (lmI k) (lmS k) = some (c, none)) (hobj : (Cond.instantiable "java/lang/Object" 0).before args s = true) :
    LmK s.vm c k ∧ ∃ (m : MethodId) (kP : Class) (cf : ClassFile) (i0 p0 : Nat), s.methodNamed? (lmX k) = some m ∧ s.vm.classes[m.cls]? = some kP ∧ kP.cf = some cf ∧ Lambda.shapeOf? cf (lmI k) = some (lmS k) ∧ (kP.callSites.find? fun y => y.1 == m.idx && y.2.1 == lmP k) = some (i0, p0, .makes c) := by
  obtain ⟨m, kP, cf, i0, p0, lk, hn, hkP, hcf, hsh, -, hf, hmade, hcan, hl⟩ := State.lambdaAt?_spec h
  obtain ⟨c0, k0, q1, q2, -, -, -, q6⟩ := Cond.instantiable_spec hobj
  have hlk : lk = .makes c := by
    rcases hl with ⟨a, cell, -, h2, -⟩ | ⟨h1, -⟩
    · cases h2
    · exact h1
  subst hlk
  obtain ⟨k', hk', hnm⟩ := Vm.findClass_spec (findClass_of_methodNamed hn)
  cases hkP.symm.trans hk'
  refine ⟨lm_made hk4 hkP (hnm.trans (lm_impl k hk4).2.2.2.2.2.2.2.1) hmade (fun o ok h1 h2 => ?_), m, kP, cf, i0, p0, hn, hkP, hcf, hsh, hf⟩
  cases q1.symm.trans h1
  cases q2.symm.trans h2
  exact q6
section
variable {α : Type}
theorem lm_i1 {x : Option CpInfo} {f : Nat → Nat → Option α} {r : α} (h : Lambda.shapeOf?.match_19 (fun _ => Option α) x f (fun _ => none) = some r) : ∃ b nt, x = some (.invokeDynamic b nt) ∧ f b nt = some r := by
  split at h
  · exact ⟨_, _, rfl, h⟩
  · cases h
theorem lm_i2 {x : Option CpInfo} {f : Nat → Option α} {r : α} (h : Lambda.shapeOf?.match_17 (fun _ => Option α) x f (fun _ => none) = some r) : ∃ y, f y = some r := by
  split at h
  · exact ⟨_, h⟩
  · cases h
theorem lm_i3 : ∀ {x : List Nat} {f : Nat → Nat → Nat → Option α} {r : α}, Lambda.shapeOf?.match_15 (fun _ => Option α) ⟨x⟩ f (fun _ => none) = some r → ∃ a0 a1 a2, f a0 a1 a2 = some r
  | [], _, _, h => nomatch h
  | [_], _, _, h => nomatch h
  | [_, _], _, _, h => nomatch h
  | [a, b, c], _, _, h => ⟨a, b, c, h⟩
  | _ :: _ :: _ :: _ :: _, _, _, h => nomatch h
theorem lm_i4 {x : Option CpInfo} {f : Nat → Option α} {r : α} (h : Lambda.shapeOf?.match_9 (fun _ => Option α) x f (fun _ => none) = some r) : ∃ y, f y = some r := by
  split at h
  · exact ⟨_, h⟩
  · cases h
theorem lm_i5 {x : Option CpInfo} {f : Nat → Nat → Option α} {r : α} (h : Lambda.shapeOf?.match_12 (fun _ => Option α) x f (fun _ => none) = some r) : ∃ y z, f y z = some r := by
  split at h
  · exact ⟨_, _, h⟩
  · cases h
theorem lm_i6 {x : Option FieldType} {f : String → Option α} {r : α} (h : Lambda.shapeOf?.match_6 (fun _ => Option α) x f (fun _ => none) = some r) : ∃ y, f y = some r := by
  split at h
  · exact ⟨_, h⟩
  · cases h
end
theorem lm_shape {cf : ClassFile} {index : Nat} {σ : Lambda.Shape} (h : Lambda.shapeOf? cf index = some σ) : ∃ b nt name desc sig, cf.constantPool[index]? = some (.invokeDynamic b nt) ∧ cf.constantPool.nameAndType? nt = some (name, desc) ∧ parseLongMethodDescriptor desc = some sig ∧ sig.parameters = σ.captured := by
  unfold Lambda.shapeOf? at h
  obtain ⟨b, nt, hc, h⟩ := lm_i1 h
  obtain ⟨en, -, h⟩ := Option.bind_eq_some_iff.mp h
  obtain ⟨bm, -, h⟩ := Option.bind_eq_some_iff.mp h
  obtain ⟨r, h⟩ := lm_i2 h
  obtain ⟨u, -, h⟩ := Option.bind_eq_some_iff.mp h
  obtain ⟨ba, hba⟩ : ∃ z, z = bm.bootstrapArguments.toList := ⟨_, rfl⟩
  have hba2 : bm.bootstrapArguments = ⟨ba⟩ := by rw [hba]
  rw [hba2] at h
  obtain ⟨a0, a1, a2, h⟩ := lm_i3 h
  obtain ⟨d0, h⟩ := lm_i4 h
  obtain ⟨kind, r1, h⟩ := lm_i5 h
  obtain ⟨d2, h⟩ := lm_i4 h
  obtain ⟨nd, hnt, h⟩ := Option.bind_eq_some_iff.mp h
  obtain ⟨site, hsite, h⟩ := Option.bind_eq_some_iff.mp h
  obtain ⟨iface, h⟩ := lm_i6 h
  obtain ⟨me, -, h⟩ := Option.bind_eq_some_iff.mp h
  obtain ⟨x1, -, h⟩ := Option.bind_eq_some_iff.mp h
  obtain ⟨x2, -, h⟩ := Option.bind_eq_some_iff.mp h
  obtain ⟨x3, -, h⟩ := Option.bind_eq_some_iff.mp h
  obtain ⟨x4, -, h⟩ := Option.bind_eq_some_iff.mp h
  obtain ⟨x5, -, h⟩ := Option.bind_eq_some_iff.mp h
  cases h
  exact ⟨b, nt, nd.1, nd.2, site, hc, hnt, parseLong_of_parse hsite, rfl⟩
def lmVals (k b : Nat) (n1 n2 n3 : Int32) : List Value := match k with
  | 0 => [.ref b, .int n1, .int n2, .int n3]
  | 1 => [.ref b]
  | _ => [.ref b, .int n1]
theorem lm_vn {k b : Nat} {n1 n2 n3 : Int32} : ((lmS k).captured.zip (lmVals k b n1 n2 n3)).map (fun (t, v) => narrow t v) = lmVals k b n1 n2 n3 := by
  match k with
  | 0 => rfl
  | 1 => rfl
  | 2 => rfl
  | n + 3 => rfl
theorem lm_vl {k b : Nat} {n1 n2 n3 : Int32} : (lmVals k b n1 n2 n3).length = (lmS k).captured.length ∧ (lmVals k b n1 n2 n3).length = lmA k := by
  match k with
  | 0 => exact ⟨rfl, rfl⟩
  | 1 => exact ⟨rfl, rfl⟩
  | 2 => exact ⟨rfl, rfl⟩
  | n + 3 => exact ⟨rfl, rfl⟩
theorem lm_vf {k b : Nat} {n1 n2 n3 : Int32} : ∀ (i : Nat) (v : Value), (lmVals k b n1 n2 n3)[i]? = some v → ∃ t, (lmS k).captured[i]? = some t ∧ fits t v = true := by
  intro i v h
  match k with
  | 0 => match i, h with
    | 0, h => cases h; exact ⟨_, rfl, rfl⟩
    | 1, h => cases h; exact ⟨_, rfl, rfl⟩
    | 2, h => cases h; exact ⟨_, rfl, rfl⟩
    | 3, h => cases h; exact ⟨_, rfl, rfl⟩
    | _ + 4, h => cases h
  | 1 => match i, h with
    | 0, h => cases h; exact ⟨_, rfl, rfl⟩
    | _ + 1, h => cases h
  | 2 => match i, h with
    | 0, h => cases h; exact ⟨_, rfl, rfl⟩
    | 1, h => cases h; exact ⟨_, rfl, rfl⟩
    | _ + 2, h => cases h
  | n + 3 => match i, h with
    | 0, h => cases h; exact ⟨_, rfl, rfl⟩
    | 1, h => cases h; exact ⟨_, rfl, rfl⟩
    | _ + 2, h => cases h
/-- the object of a lambda is made -/
theorem h_indy {p : Program} {l : Launch} {e : Env} {R : Room} {s : State} {m : MethodId} {args : Array Value} {below : List Frame} {meth : Method} {c : Code} {H : Heap} {locs : List Loc} {cells slots : Nat} {Q : State → Prop} {pc : Nat} {ls : Array Slot} {rest : List Value} {A : Nat → Prop} {D : HD} {h : Hp} {cc : ByteArray} {k b : Nat} {n1 n2 n3 : Int32}
    (hk4 : k < 4) (hx : p.tables.exec = Jvm.exec) (hb : c.code = cc) (hml : c.maxLocals = ls.size) (hGr : hG D A s s.heap) (hobj : (Cond.instantiable "java/lang/Object" 0).before args s = true) (hnm : s.methodNamed? (lmX k) = some m) (hr : hR D A h H) (hS : va_S A s.heap H locs)
    (hd : decode cc pc = .ok (.invokedynamic (lmI k), 5)) (hpc : pc = lmP k) (hlo : (((lmVals k b n1 n2 n3).reverse ++ rest).map fun v => v.category).sum + 3072 ≤ R.locals) (hcells : cells + 1 ≤ R.cells) (hslots : slots + lmA k ≤ R.slots)
    (kk : ∀ H1 : Heap, hR D A (hNew h (.inr (100 + k, lmVals k b n1 n2 n3)) (lmA k)) H1 → va_S A s.heap H1 locs → W p l e R s m args below meth c H1 locs (cells + 1) (slots + lmA k) Q (F0 m (pc + 5) ls (.ref (hSz h) :: rest))) :
    W p l e R s m args below meth c H locs cells slots Q (F0 m pc ls ((lmVals k b n1 n2 n3).reverse ++ rest)) := by
  subst hpc
  intro T hT X
  obtain ⟨⟨kK, tk, methk, ck, toy, t, file, hkK, -, -, -, -, -, -, -, -, -, -, -, -, -, -, -, -, -, hty, hkind⟩, m', kP, cf, i0, p0, hn, hkP, hcf, hsh, hf⟩ := lm_facts hk4 (hGr.lam k hk4) hobj
  cases hnm.symm.trans hn
  obtain ⟨bs, nt, name, desc, sig, e1, e2, e3, e4⟩ := lm_shape hsh
  have hv : ((kK.instanceTypes.toList.zip (lmVals k b n1 n2 n3)).map fun (t, v) => narrow t v) = lmVals k b n1 n2 n3 := by rw [hty]; exact lm_vn
  have hl : (lmVals k b n1 n2 n3).length = lmA k := lm_vl.2
  obtain ⟨X1, st1⟩ := X.lambdaMakes hx (g := F0 m (lmP k) ls ((lmVals k b n1 n2 n3).reverse ++ rest)) rfl hml.symm (by rw [hb]; exact hd) (vals := lmVals k b n1 n2 n3) (rest := rest) hkP hf hcf e1 e2 e3 (by rw [e4]; exact lm_vl.1) rfl hkK
    (by rw [X.admits.platform]; show 2 * 0 + (((lmVals k b n1 n2 n3).reverse ++ rest).map fun v => v.category).sum + 3072 ≤ _; omega) hcells (by rw [hv, hl]; exact hslots)
    (fun i v hi => by
      rw [hv] at hi
      obtain ⟨t, g1, g2⟩ := lm_vf i v (by simpa using hi)
      simp [State.fitsSlot, State.slotType?, hkK, hkind, hty, g1, g2])
  rw [hv] at X1 st1
  rw [show (lmVals k b n1 n2 n3).toArray.size = lmA k by simpa using hl] at X1
  have hh : (T.pushCell { cls := D.2 (100 + k), slots := (lmVals k b n1 n2 n3).toArray, vm := .none }).heap = T.heap.push { cls := D.2 (100 + k), slots := (lmVals k b n1 n2 n3).toArray, vm := .none } := rfl
  have hz := hr.1
  have z1 : (T.heap.push ({ cls := D.2 (100 + k), slots := (lmVals k b n1 n2 n3).toArray, vm := .none } : Cell)).size = H.size + 1 := by rw [Array.size_push, hT]
  have o1 : ∀ q : Nat, q < H.size → (T.heap.push ({ cls := D.2 (100 + k), slots := (lmVals k b n1 n2 n3).toArray, vm := .none } : Cell))[q]? = H[q]? := fun q hq => by rw [hT, Array.getElem?_push, if_neg (Nat.ne_of_lt hq)]
  have e9 : (T.heap.push ({ cls := D.2 (100 + k), slots := (lmVals k b n1 n2 n3).toArray, vm := .none } : Cell))[hSz h]? = some { cls := D.2 (100 + k), slots := (lmVals k b n1 n2 n3).toArray, vm := .none } := by rw [← hz, hT, Array.getElem?_push_size]
  obtain ⟨t2, a1, b1⟩ := kk _ (hr.new (by unfold cAt; simp only [show ¬ 100 + k < 100 by omega, if_false]; exact e9) z1 o1) (h_mv hS z1 o1) _ hh X1
  have hs9 : T.heap.size = hSz h := by rw [hT]; exact hz
  rw [hs9] at st1
  exact ⟨t2, st1 _ a1, b1⟩

theorem lm_d0_0 : decode (lmB 0) 0 = .ok (.aload_n 0, 1) := by decide +kernel
theorem lm_d0_1 : decode (lmB 0) 1 = .ok (.getfield 19, 3) := by decide +kernel
theorem lm_d0_4 : decode (lmB 0) 4 = .ok (.aload_n 0, 1) := by decide +kernel
theorem lm_d0_5 : decode (lmB 0) 5 = .ok (.getfield 21, 3) := by decide +kernel
theorem lm_d0_8 : decode (lmB 0) 8 = .ok (.aload_n 0, 1) := by decide +kernel
theorem lm_d0_9 : decode (lmB 0) 9 = .ok (.getfield 23, 3) := by decide +kernel
theorem lm_d0_12 : decode (lmB 0) 12 = .ok (.aload_n 0, 1) := by decide +kernel
theorem lm_d0_13 : decode (lmB 0) 13 = .ok (.getfield 25, 3) := by decide +kernel
theorem lm_d0_16 : decode (lmB 0) 16 = .ok (.iload_n 1, 1) := by decide +kernel
theorem lm_d0_17 : decode (lmB 0) 17 = .ok (.iload_n 2, 1) := by decide +kernel
theorem lm_d0_18 : decode (lmB 0) 18 = .ok (.invokevirtual 33, 3) := by decide +kernel
theorem lm_d0_21 : decode (lmB 0) 21 = .ok (.ireturn, 1) := by decide +kernel
set_option maxHeartbeats 4000000 in
/-- the call of an object of the lambda 0, where the frame of Cell.at is entered -/
theorem lm_in0 {p : Program} {l : Launch} {e : Env} {R : Room} {s : State} {m : MethodId} {args : Array Value} {below : List Frame} {meth : Method} {c : Code} {T : State} {locs : List Loc} {cells slots : Nat} (X : Stand p l e R s m args below meth c T locs cells slots) (hexec : p.tables.exec = Jvm.exec) {g : JFrame} (hg : g.method = m) (hsize : g.locals.size = c.maxLocals) {ig : Instr} {len : Nat} (hdg : decode c.code g.pc = .ok (ig, len)) {cK : ClassId} (hLM : LmK T.vm cK 0) {a b : Addr} {n1 n2 n3 i j : Int32} (hcell : T.heap[a]? = some { cls := cK, slots := (lmVals 0 b n1 n2 n3).toArray, vm := .none })
    {cB : Cell} (hcB : T.heap[b]? = some cB) (hoB : cB.vm.isStatics = false) (hclB : T.vm.findClass "ExactChains$Process" = some cB.cls)
    {y : MethodName} {bytes : ByteArray} {maxL mc ms : Nat} {ret : Option FieldType} {ws : List Cond} {rm : Room} {Pc : Array Value → State → Prop} {Qc : Array Value → State → Outcome → State → Prop} {free : Addr → Prop}
    (hy : y = lmY 0) (hM : Met l y ws rm Pc Qc mc ms free) (hblind : FrameBlind Pc) (hrc : rm.cells = mc) (hrs : rm.slots = ms) (hws : ∀ w ∈ ws, ∀ a' U, T.WarmedH U.vm → w.before a' U = true) (hcode : Cond.code y bytes maxL ret ∈ ws) (hini : ∀ a' U, T.WarmedH U.vm → (Cond.initialized y.cls).before a' U = true)
    (hinst : (Cond.instanceMethod y).before #[] T = true) (hsel : (Cond.selects "ExactChains$Process" y y).before #[] T = true) (hcodeT : (Cond.code y bytes maxL ret).before #[] T = true)
    (hPc : ∀ U : State, U.heap = T.heap → T.WarmedH U.vm → Pc #[.ref b, .int n1, .int n2, .int n3, .int i, .int j] U) (hQ : ∀ a st oc t, Qc a st oc t → ∃ r : Int32, oc = .returned (some (.int r)))
    (hfr : rm.frames + 2 ≤ R.frames) (hlo : 2 * g.monitorRoom + (g.stack.map fun v => v.category).sum + (3 + 11) + (8 + (maxL + 11) + rm.locals) ≤ R.locals) (hc : cells + mc ≤ R.cells) (hs : slots + ms ≤ R.slots) :
    ∃ (r : Int32) (st₀ t T' : State) (L : List Loc), st₀.heap = T.heap ∧ Stand p l e R s m args below meth c T' (locs ++ L) (cells + mc) (slots + ms) ∧ (∀ q ∈ L, free q.base) ∧ T'.heap = t.heap ∧ T'.vm = t.vm ∧ Qc #[.ref b, .int n1, .int n2, .int n3, .int i, .int j] st₀ (.returned (some (.int r))) t ∧
      ∀ acts, Steps p.tables e below (doInvoke e (T.setTop g) acts ⟨cK, 1⟩ #[.ref a, .int i, .int j]).1 (T'.setTop { g with pc := g.pc + len, stack := .int r :: g.stack }) := by
  obtain ⟨kK, tk, methk, ck, toy, tg, file, hk, hkn, hfile, hpool, hmk, hck, hbytes, hml, hlk, hfl, hretk, htoy, htk, hitf, hask, hready, hcready, hflds, hty, hkind⟩ := hLM
  obtain ⟨Y₀, hin⟩ := X.into hg hsize hdg #[.ref a, .int i, .int j] (R' := { frames := rm.frames + 1, cells := mc, slots := ms, locals := 8 + (maxL + 11) + rm.locals }) hmk hck hlk (State.plainMethod.of_name (fun k' hk' => by cases hk.symm.trans hk'; rw [hkn]; decide)) (by show rm.frames + 1 + 1 ≤ _; omega) (by rw [hml]; exact hlo) hc hs
  have hlocE : entryFrame ⟨cK, 1⟩ #[.ref a, .int i, .int j] ck.maxLocals = { method := ⟨cK, 1⟩, pc := 0, locals := #[.val (.ref a), .val (.int i), .val (.int j)], stack := [], locked := none } := by rw [hml]; rfl
  rw [hlocE] at Y₀ hin
  generalize hU : (T.setTop g).pushFrame (.java { method := ⟨cK, 1⟩, pc := 0, locals := #[.val (.ref a), .val (.int i), .val (.int j)], stack := [], locked := none }) = U at Y₀ hin
  have hvm : U.vm = T.vm := by rw [← hU]; rfl
  have hheap : U.heap = T.heap := by rw [← hU]; rfl
  obtain ⟨mkY, methY, hnY, hmY, hstY, habY⟩ := Cond.instanceMethod_spec hinst
  obtain ⟨c2, r2, m2, q1, q2, q3, q4, kP, hkP, hkPi⟩ := Cond.selects_spec hsel
  have hyh : y.cls ≠ "java/lang/invoke/MethodHandle" ∧ y.cls ≠ "java/lang/invoke/VarHandle" := by rw [hy]; exact (lm_impl 0 (by decide)).2.2.2.2.2.2.2.2.2
  cases hclB.symm.trans q1
  have hmf := State.methodFound?_of_named hnY hyh
  cases hmf.symm.trans q2
  cases hnY.symm.trans q3
  have htg : tg = mkY := by
    obtain ⟨i1, i2, i3, -⟩ := lm_impl 0 (by decide)
    rw [hy, ← i1, ← i2, i3] at hmf
    simp only [State.methodFound?, htoy, htk, Option.bind_eq_bind, Option.bind_some] at hmf
    rw [hask] at hmf
    exact Option.some.inj hmf
  subst htg
  obtain ⟨methY', cY, hmY', hcY, -, -, -, -, -, hsigY⟩ := Cond.code_spec hnY hcodeT
  cases hmY.symm.trans hmY'
  have hparY : methY.sig.parameters.length = 5 := by
    rw [hy] at hsigY
    have h9 : (parseMethodDescriptor (lmY 0).desc).map (fun d => d.parameters.length) = some 5 := by decide +kernel
    rw [hsigY] at h9
    exact Option.some.inj h9
  have hpoly : signaturePolymorphic kP methY = false := by
    obtain ⟨kP', hkP', hnmP⟩ := className_of_methodNamed hnY
    cases hkP.symm.trans hkP'
    exact signaturePolymorphic_of_name (by rw [hnmP]; exact hyh) methY
  have hselP : selectMethod e.platform T.vm cB.cls tg = .method tg := by rw [Launch.admits_selectMethod X.admits]; exact q4
  have hK : Back l { frames := rm.frames + 1, cells := mc, slots := ms, locals := 8 + (maxL + 11) + rm.locals } p e (.java g :: below) (T.calling g ⟨cK, 1⟩ #[.ref a, .int i, .int j]) #[.ref a, .int i, .int j] y 3 8 (PreOf { frames := rm.frames + 1, cells := mc, slots := ms, locals := 8 + (maxL + 11) + rm.locals } mc ms Pc) (PostOf Qc mc ms free) :=
    back_of (bytes := bytes) (maxL := maxL) (ret := ret) hM hblind hrc hrs (Nat.le_refl _) (Nat.le_refl _) (fun w hw a' U hW => hws w hw a' U hW) hcode (fun a' U hW => hini a' U hW)
  have hnYU : U.methodNamed? y = some tg := by
    have h9 : (T.setVm U.vm).methodNamed? y = T.methodNamed? y := by rw [hvm]; rfl
    exact h9.trans hnY
  obtain ⟨v, B, Y₁, ⟨g', mk', t, L, e1, e2, hq, h1, hL, h2, h3⟩, hsteps⟩ := hK ⟨cK, 1⟩ methk ck ⟨U, [], 0, 0⟩ { method := ⟨cK, 1⟩, pc := 18, locals := #[.val (.ref a), .val (.int i), .val (.int j)], stack := [], locked := none } (.invokevirtual 33) tg #[.ref b, .int n1, .int n2, .int n3, .int i, .int j] Y₀ rfl (by rw [hml]; rfl) (by rw [hbytes]; exact lm_d0_18) (by show 2 * 0 + 0 ≤ 8; decide) hnYU ⟨by show 0 + mc ≤ mc; omega, by show 0 + ms ≤ ms; omega, hPc U hheap (by rw [hvm]; exact State.WarmedH.refl T)⟩
  dsimp only [Pt.U, Pt.locs, Pt.cells, Pt.slots] at h1 h2 h3 hsteps e1 e2 Y₁
  obtain ⟨r, hr⟩ := hQ _ _ _ _ hq
  obtain rfl : v = some (.int r) := Outcome.returned.inj hr
  obtain ⟨fs, hleave, -, hended, hWe, hsame⟩ := Y₁.leave (v := some (.int r)) (fun h => by rw [hretk] at h; cases h) hlk
  obtain ⟨T', X', hW', -, ht⟩ := X.outOf hg hdg hended hWe hsame
  rw [h1, h2, h3] at X'
  refine ⟨r, (U.calling g' mk' #[.ref b, .int n1, .int n2, .int n3, .int i, .int j]), t, T', [] ++ L, hheap, by simpa using X', by simpa using hL, ?_, ?_, hq, fun acts => ?_⟩
  · rw [← e1]; exact (congrArg State.heap ht).symm
  · rw [← e2]; exact (congrArg State.vm ht).symm
  rw [hin acts]
  show Steps p.tables e below _ (T'.setTop { g with pc := g.pc + len, stack := (some (Value.int r)).toList ++ g.stack })
  rw [← ht]
  refine Steps.weaken (mid := [.java g]) ?_
  have hs : U.topJava?.isSome := Y₀.here.top
  obtain ⟨f0, hf0, hf0s, hf0z⟩ := hflds 0 (by decide)
  obtain ⟨f1, hf1, hf1s, hf1z⟩ := hflds 1 (by decide)
  obtain ⟨f2, hf2, hf2s, hf2z⟩ := hflds 2 (by decide)
  obtain ⟨f3, hf3, hf3s, hf3z⟩ := hflds 3 (by decide)
  jvm_step Y₀.here [hexec, hbytes, lm_d0_0, Value.isRef]
  jvm_step Y₀.here [hexec, hbytes, lm_d0_1, getfield.wp_ready (index := 19) (e := e) (s := U) (c := cK) (field := f0) (a := a) (rest := []) (cell := { cls := cK, slots := (lmVals 0 b n1 n2 n3).toArray, vm := .none }) (v := .ref b)
    (f := { method := ⟨cK, 1⟩, pc := 1, locals := #[.val (.ref a), .val (.int i), .val (.int j)], stack := [.ref a], locked := none }) hs (by rw [hvm]; exact hf0) hf0s rfl (by rw [hheap]; exact hcell) (by simp) (by rw [hf0z]; rfl)]
  jvm_step Y₀.here [hexec, hbytes, lm_d0_4, Value.isRef]
  jvm_step Y₀.here [hexec, hbytes, lm_d0_5, getfield.wp_ready (index := 21) (e := e) (s := U) (c := cK) (field := f1) (a := a) (rest := [.ref b]) (cell := { cls := cK, slots := (lmVals 0 b n1 n2 n3).toArray, vm := .none }) (v := .int n1)
    (f := { method := ⟨cK, 1⟩, pc := 5, locals := #[.val (.ref a), .val (.int i), .val (.int j)], stack := [.ref a, .ref b], locked := none }) hs (by rw [hvm]; exact hf1) hf1s rfl (by rw [hheap]; exact hcell) (by simp) (by rw [hf1z]; rfl)]
  jvm_step Y₀.here [hexec, hbytes, lm_d0_8, Value.isRef]
  jvm_step Y₀.here [hexec, hbytes, lm_d0_9, getfield.wp_ready (index := 23) (e := e) (s := U) (c := cK) (field := f2) (a := a) (rest := [.int n1, .ref b]) (cell := { cls := cK, slots := (lmVals 0 b n1 n2 n3).toArray, vm := .none }) (v := .int n2)
    (f := { method := ⟨cK, 1⟩, pc := 9, locals := #[.val (.ref a), .val (.int i), .val (.int j)], stack := [.ref a, .int n1, .ref b], locked := none }) hs (by rw [hvm]; exact hf2) hf2s rfl (by rw [hheap]; exact hcell) (by simp) (by rw [hf2z]; rfl)]
  jvm_step Y₀.here [hexec, hbytes, lm_d0_12, Value.isRef]
  jvm_step Y₀.here [hexec, hbytes, lm_d0_13, getfield.wp_ready (index := 25) (e := e) (s := U) (c := cK) (field := f3) (a := a) (rest := [.int n2, .int n1, .ref b]) (cell := { cls := cK, slots := (lmVals 0 b n1 n2 n3).toArray, vm := .none }) (v := .int n3)
    (f := { method := ⟨cK, 1⟩, pc := 13, locals := #[.val (.ref a), .val (.int i), .val (.int j)], stack := [.ref a, .int n2, .int n1, .ref b], locked := none }) hs (by rw [hvm]; exact hf3) hf3s rfl (by rw [hheap]; exact hcell) (by simp) (by rw [hf3z]; rfl)]
  jvm_step Y₀.here [hexec, hbytes, lm_d0_16]
  jvm_step Y₀.here [hexec, hbytes, lm_d0_17]
  jvm_step Y₀.here [hexec, hbytes, lm_d0_18, invokevirtual.wp_ready (index := 33) (e := e) (s := U) (r := tg) (m := tg) (k := kP) (mk := kP) (rmeth := methY) (meth := methY) (a := b) (args := [.int n1, .int n2, .int n3, .int i, .int j]) (rest := []) (cell := cB)
    (f := { method := ⟨cK, 1⟩, pc := 18, locals := #[.val (.ref a), .val (.int i), .val (.int j)], stack := [.int j, .int i, .int n3, .int n2, .int n1, .ref b], locked := none }) hs (by
      rw [show lmC 0 = 29 from rfl] at hcready
      exact ⟨kK, file, 29, 32, toy, tk, by rw [hvm]; exact hk, hfile, by rw [hpool]; exact (lm_eM 0 (by decide)).1, by rw [hvm]; exact hcready, by rw [hvm]; exact htk, hitf⟩) (by rw [hvm]; exact hready) (by rw [hvm]; exact hkP) (by rw [hvm]; exact hmY) hpoly hstY hparY.symm rfl
    (by rw [hheap]; exact hcB) (fun z h => by rw [h] at hoB; cases hoB) (by rw [hvm]; exact hselP) (by rw [hvm]; exact hmY) habY (by rw [hvm]; exact hkP) hkPi]
  intro acts'
  rw [doInvoke_state]
  refine hsteps.trans ?_
  show Steps p.tables e (.java g :: below) (B.U.setTop { method := ⟨cK, 1⟩, pc := 21, locals := #[.val (.ref a), .val (.int i), .val (.int j)], stack := [.int r], locked := none }) _
  jvm_step Y₁.here [Y₁.here.top, hexec, hbytes, lm_d0_21, (show B.U.vm.method? ⟨cK, 1⟩ = some methk from Y₁.method'), hretk, narrow]
  intro acts''
  rw [hleave { method := ⟨cK, 1⟩, pc := 21, locals := #[.val (.ref a), .val (.int i), .val (.int j)], stack := [], locked := none } acts'' rfl rfl rfl]
  exact Steps.refl _
theorem lm_d1_0 : decode (lmB 1) 0 = .ok (.aload_n 0, 1) := by decide +kernel
theorem lm_d1_1 : decode (lmB 1) 1 = .ok (.getfield 15, 3) := by decide +kernel
theorem lm_d1_4 : decode (lmB 1) 4 = .ok (.iload_n 1, 1) := by decide +kernel
theorem lm_d1_5 : decode (lmB 1) 5 = .ok (.iload_n 2, 1) := by decide +kernel
theorem lm_d1_6 : decode (lmB 1) 6 = .ok (.invokevirtual 22, 3) := by decide +kernel
theorem lm_d1_9 : decode (lmB 1) 9 = .ok (.ireturn, 1) := by decide +kernel
set_option maxHeartbeats 4000000 in
/-- the call of an object of the lambda 1, where the frame of Cell.at is entered -/
theorem lm_in1 {p : Program} {l : Launch} {e : Env} {R : Room} {s : State} {m : MethodId} {args : Array Value} {below : List Frame} {meth : Method} {c : Code} {T : State} {locs : List Loc} {cells slots : Nat} (X : Stand p l e R s m args below meth c T locs cells slots) (hexec : p.tables.exec = Jvm.exec) {g : JFrame} (hg : g.method = m) (hsize : g.locals.size = c.maxLocals) {ig : Instr} {len : Nat} (hdg : decode c.code g.pc = .ok (ig, len)) {cK : ClassId} (hLM : LmK T.vm cK 1) {a b : Addr} {n1 n2 n3 i j : Int32} (hcell : T.heap[a]? = some { cls := cK, slots := (lmVals 1 b n1 n2 n3).toArray, vm := .none })
    {cB : Cell} (hcB : T.heap[b]? = some cB) (hoB : cB.vm.isStatics = false) (hclB : T.vm.findClass "ExactChains$Process" = some cB.cls)
    {y : MethodName} {bytes : ByteArray} {maxL mc ms : Nat} {ret : Option FieldType} {ws : List Cond} {rm : Room} {Pc : Array Value → State → Prop} {Qc : Array Value → State → Outcome → State → Prop} {free : Addr → Prop}
    (hy : y = lmY 1) (hM : Met l y ws rm Pc Qc mc ms free) (hblind : FrameBlind Pc) (hrc : rm.cells = mc) (hrs : rm.slots = ms) (hws : ∀ w ∈ ws, ∀ a' U, T.WarmedH U.vm → w.before a' U = true) (hcode : Cond.code y bytes maxL ret ∈ ws) (hini : ∀ a' U, T.WarmedH U.vm → (Cond.initialized y.cls).before a' U = true)
    (hinst : (Cond.instanceMethod y).before #[] T = true) (hsel : (Cond.selects "ExactChains$Process" y y).before #[] T = true) (hcodeT : (Cond.code y bytes maxL ret).before #[] T = true)
    (hPc : ∀ U : State, U.heap = T.heap → T.WarmedH U.vm → Pc #[.ref b, .int i, .int j] U) (hQ : ∀ a st oc t, Qc a st oc t → ∃ r : Int32, oc = .returned (some (.int r)))
    (hfr : rm.frames + 2 ≤ R.frames) (hlo : 2 * g.monitorRoom + (g.stack.map fun v => v.category).sum + (3 + 11) + (8 + (maxL + 11) + rm.locals) ≤ R.locals) (hc : cells + mc ≤ R.cells) (hs : slots + ms ≤ R.slots) :
    ∃ (r : Int32) (st₀ t T' : State) (L : List Loc), st₀.heap = T.heap ∧ Stand p l e R s m args below meth c T' (locs ++ L) (cells + mc) (slots + ms) ∧ (∀ q ∈ L, free q.base) ∧ T'.heap = t.heap ∧ T'.vm = t.vm ∧ Qc #[.ref b, .int i, .int j] st₀ (.returned (some (.int r))) t ∧
      ∀ acts, Steps p.tables e below (doInvoke e (T.setTop g) acts ⟨cK, 1⟩ #[.ref a, .int i, .int j]).1 (T'.setTop { g with pc := g.pc + len, stack := .int r :: g.stack }) := by
  obtain ⟨kK, tk, methk, ck, toy, tg, file, hk, hkn, hfile, hpool, hmk, hck, hbytes, hml, hlk, hfl, hretk, htoy, htk, hitf, hask, hready, hcready, hflds, hty, hkind⟩ := hLM
  obtain ⟨Y₀, hin⟩ := X.into hg hsize hdg #[.ref a, .int i, .int j] (R' := { frames := rm.frames + 1, cells := mc, slots := ms, locals := 8 + (maxL + 11) + rm.locals }) hmk hck hlk (State.plainMethod.of_name (fun k' hk' => by cases hk.symm.trans hk'; rw [hkn]; decide)) (by show rm.frames + 1 + 1 ≤ _; omega) (by rw [hml]; exact hlo) hc hs
  have hlocE : entryFrame ⟨cK, 1⟩ #[.ref a, .int i, .int j] ck.maxLocals = { method := ⟨cK, 1⟩, pc := 0, locals := #[.val (.ref a), .val (.int i), .val (.int j)], stack := [], locked := none } := by rw [hml]; rfl
  rw [hlocE] at Y₀ hin
  generalize hU : (T.setTop g).pushFrame (.java { method := ⟨cK, 1⟩, pc := 0, locals := #[.val (.ref a), .val (.int i), .val (.int j)], stack := [], locked := none }) = U at Y₀ hin
  have hvm : U.vm = T.vm := by rw [← hU]; rfl
  have hheap : U.heap = T.heap := by rw [← hU]; rfl
  obtain ⟨mkY, methY, hnY, hmY, hstY, habY⟩ := Cond.instanceMethod_spec hinst
  obtain ⟨c2, r2, m2, q1, q2, q3, q4, kP, hkP, hkPi⟩ := Cond.selects_spec hsel
  have hyh : y.cls ≠ "java/lang/invoke/MethodHandle" ∧ y.cls ≠ "java/lang/invoke/VarHandle" := by rw [hy]; exact (lm_impl 1 (by decide)).2.2.2.2.2.2.2.2.2
  cases hclB.symm.trans q1
  have hmf := State.methodFound?_of_named hnY hyh
  cases hmf.symm.trans q2
  cases hnY.symm.trans q3
  have htg : tg = mkY := by
    obtain ⟨i1, i2, i3, -⟩ := lm_impl 1 (by decide)
    rw [hy, ← i1, ← i2, i3] at hmf
    simp only [State.methodFound?, htoy, htk, Option.bind_eq_bind, Option.bind_some] at hmf
    rw [hask] at hmf
    exact Option.some.inj hmf
  subst htg
  obtain ⟨methY', cY, hmY', hcY, -, -, -, -, -, hsigY⟩ := Cond.code_spec hnY hcodeT
  cases hmY.symm.trans hmY'
  have hparY : methY.sig.parameters.length = 2 := by
    rw [hy] at hsigY
    have h9 : (parseMethodDescriptor (lmY 1).desc).map (fun d => d.parameters.length) = some 2 := by decide +kernel
    rw [hsigY] at h9
    exact Option.some.inj h9
  have hpoly : signaturePolymorphic kP methY = false := by
    obtain ⟨kP', hkP', hnmP⟩ := className_of_methodNamed hnY
    cases hkP.symm.trans hkP'
    exact signaturePolymorphic_of_name (by rw [hnmP]; exact hyh) methY
  have hselP : selectMethod e.platform T.vm cB.cls tg = .method tg := by rw [Launch.admits_selectMethod X.admits]; exact q4
  have hK : Back l { frames := rm.frames + 1, cells := mc, slots := ms, locals := 8 + (maxL + 11) + rm.locals } p e (.java g :: below) (T.calling g ⟨cK, 1⟩ #[.ref a, .int i, .int j]) #[.ref a, .int i, .int j] y 3 8 (PreOf { frames := rm.frames + 1, cells := mc, slots := ms, locals := 8 + (maxL + 11) + rm.locals } mc ms Pc) (PostOf Qc mc ms free) :=
    back_of (bytes := bytes) (maxL := maxL) (ret := ret) hM hblind hrc hrs (Nat.le_refl _) (Nat.le_refl _) (fun w hw a' U hW => hws w hw a' U hW) hcode (fun a' U hW => hini a' U hW)
  have hnYU : U.methodNamed? y = some tg := by
    have h9 : (T.setVm U.vm).methodNamed? y = T.methodNamed? y := by rw [hvm]; rfl
    exact h9.trans hnY
  obtain ⟨v, B, Y₁, ⟨g', mk', t, L, e1, e2, hq, h1, hL, h2, h3⟩, hsteps⟩ := hK ⟨cK, 1⟩ methk ck ⟨U, [], 0, 0⟩ { method := ⟨cK, 1⟩, pc := 6, locals := #[.val (.ref a), .val (.int i), .val (.int j)], stack := [], locked := none } (.invokevirtual 22) tg #[.ref b, .int i, .int j] Y₀ rfl (by rw [hml]; rfl) (by rw [hbytes]; exact lm_d1_6) (by show 2 * 0 + 0 ≤ 8; decide) hnYU ⟨by show 0 + mc ≤ mc; omega, by show 0 + ms ≤ ms; omega, hPc U hheap (by rw [hvm]; exact State.WarmedH.refl T)⟩
  dsimp only [Pt.U, Pt.locs, Pt.cells, Pt.slots] at h1 h2 h3 hsteps e1 e2 Y₁
  obtain ⟨r, hr⟩ := hQ _ _ _ _ hq
  obtain rfl : v = some (.int r) := Outcome.returned.inj hr
  obtain ⟨fs, hleave, -, hended, hWe, hsame⟩ := Y₁.leave (v := some (.int r)) (fun h => by rw [hretk] at h; cases h) hlk
  obtain ⟨T', X', hW', -, ht⟩ := X.outOf hg hdg hended hWe hsame
  rw [h1, h2, h3] at X'
  refine ⟨r, (U.calling g' mk' #[.ref b, .int i, .int j]), t, T', [] ++ L, hheap, by simpa using X', by simpa using hL, ?_, ?_, hq, fun acts => ?_⟩
  · rw [← e1]; exact (congrArg State.heap ht).symm
  · rw [← e2]; exact (congrArg State.vm ht).symm
  rw [hin acts]
  show Steps p.tables e below _ (T'.setTop { g with pc := g.pc + len, stack := (some (Value.int r)).toList ++ g.stack })
  rw [← ht]
  refine Steps.weaken (mid := [.java g]) ?_
  have hs : U.topJava?.isSome := Y₀.here.top
  obtain ⟨f0, hf0, hf0s, hf0z⟩ := hflds 0 (by decide)
  jvm_step Y₀.here [hexec, hbytes, lm_d1_0, Value.isRef]
  jvm_step Y₀.here [hexec, hbytes, lm_d1_1, getfield.wp_ready (index := 15) (e := e) (s := U) (c := cK) (field := f0) (a := a) (rest := []) (cell := { cls := cK, slots := (lmVals 1 b n1 n2 n3).toArray, vm := .none }) (v := .ref b)
    (f := { method := ⟨cK, 1⟩, pc := 1, locals := #[.val (.ref a), .val (.int i), .val (.int j)], stack := [.ref a], locked := none }) hs (by rw [hvm]; exact hf0) hf0s rfl (by rw [hheap]; exact hcell) (by simp) (by rw [hf0z]; rfl)]
  jvm_step Y₀.here [hexec, hbytes, lm_d1_4]
  jvm_step Y₀.here [hexec, hbytes, lm_d1_5]
  jvm_step Y₀.here [hexec, hbytes, lm_d1_6, invokevirtual.wp_ready (index := 22) (e := e) (s := U) (r := tg) (m := tg) (k := kP) (mk := kP) (rmeth := methY) (meth := methY) (a := b) (args := [.int i, .int j]) (rest := []) (cell := cB)
    (f := { method := ⟨cK, 1⟩, pc := 6, locals := #[.val (.ref a), .val (.int i), .val (.int j)], stack := [.int j, .int i, .ref b], locked := none }) hs (by
      rw [show lmC 1 = 19 from rfl] at hcready
      exact ⟨kK, file, 19, 21, toy, tk, by rw [hvm]; exact hk, hfile, by rw [hpool]; exact (lm_eM 1 (by decide)).1, by rw [hvm]; exact hcready, by rw [hvm]; exact htk, hitf⟩) (by rw [hvm]; exact hready) (by rw [hvm]; exact hkP) (by rw [hvm]; exact hmY) hpoly hstY hparY.symm rfl
    (by rw [hheap]; exact hcB) (fun z h => by rw [h] at hoB; cases hoB) (by rw [hvm]; exact hselP) (by rw [hvm]; exact hmY) habY (by rw [hvm]; exact hkP) hkPi]
  intro acts'
  rw [doInvoke_state]
  refine hsteps.trans ?_
  show Steps p.tables e (.java g :: below) (B.U.setTop { method := ⟨cK, 1⟩, pc := 9, locals := #[.val (.ref a), .val (.int i), .val (.int j)], stack := [.int r], locked := none }) _
  jvm_step Y₁.here [Y₁.here.top, hexec, hbytes, lm_d1_9, (show B.U.vm.method? ⟨cK, 1⟩ = some methk from Y₁.method'), hretk, narrow]
  intro acts''
  rw [hleave { method := ⟨cK, 1⟩, pc := 9, locals := #[.val (.ref a), .val (.int i), .val (.int j)], stack := [], locked := none } acts'' rfl rfl rfl]
  exact Steps.refl _
theorem lm_d2_0 : decode (lmB 2) 0 = .ok (.aload_n 0, 1) := by decide +kernel
theorem lm_d2_1 : decode (lmB 2) 1 = .ok (.getfield 17, 3) := by decide +kernel
theorem lm_d2_4 : decode (lmB 2) 4 = .ok (.aload_n 0, 1) := by decide +kernel
theorem lm_d2_5 : decode (lmB 2) 5 = .ok (.getfield 19, 3) := by decide +kernel
theorem lm_d2_8 : decode (lmB 2) 8 = .ok (.iload_n 1, 1) := by decide +kernel
theorem lm_d2_9 : decode (lmB 2) 9 = .ok (.iload_n 2, 1) := by decide +kernel
theorem lm_d2_10 : decode (lmB 2) 10 = .ok (.invokevirtual 27, 3) := by decide +kernel
theorem lm_d2_13 : decode (lmB 2) 13 = .ok (.ireturn, 1) := by decide +kernel
set_option maxHeartbeats 4000000 in
/-- the call of an object of the lambda 2, where the frame of Cell.at is entered -/
theorem lm_in2 {p : Program} {l : Launch} {e : Env} {R : Room} {s : State} {m : MethodId} {args : Array Value} {below : List Frame} {meth : Method} {c : Code} {T : State} {locs : List Loc} {cells slots : Nat} (X : Stand p l e R s m args below meth c T locs cells slots) (hexec : p.tables.exec = Jvm.exec) {g : JFrame} (hg : g.method = m) (hsize : g.locals.size = c.maxLocals) {ig : Instr} {len : Nat} (hdg : decode c.code g.pc = .ok (ig, len)) {cK : ClassId} (hLM : LmK T.vm cK 2) {a b : Addr} {n1 n2 n3 i j : Int32} (hcell : T.heap[a]? = some { cls := cK, slots := (lmVals 2 b n1 n2 n3).toArray, vm := .none })
    {cB : Cell} (hcB : T.heap[b]? = some cB) (hoB : cB.vm.isStatics = false) (hclB : T.vm.findClass "ExactChains$Process" = some cB.cls)
    {y : MethodName} {bytes : ByteArray} {maxL mc ms : Nat} {ret : Option FieldType} {ws : List Cond} {rm : Room} {Pc : Array Value → State → Prop} {Qc : Array Value → State → Outcome → State → Prop} {free : Addr → Prop}
    (hy : y = lmY 2) (hM : Met l y ws rm Pc Qc mc ms free) (hblind : FrameBlind Pc) (hrc : rm.cells = mc) (hrs : rm.slots = ms) (hws : ∀ w ∈ ws, ∀ a' U, T.WarmedH U.vm → w.before a' U = true) (hcode : Cond.code y bytes maxL ret ∈ ws) (hini : ∀ a' U, T.WarmedH U.vm → (Cond.initialized y.cls).before a' U = true)
    (hinst : (Cond.instanceMethod y).before #[] T = true) (hsel : (Cond.selects "ExactChains$Process" y y).before #[] T = true) (hcodeT : (Cond.code y bytes maxL ret).before #[] T = true)
    (hPc : ∀ U : State, U.heap = T.heap → T.WarmedH U.vm → Pc #[.ref b, .int n1, .int i, .int j] U) (hQ : ∀ a st oc t, Qc a st oc t → ∃ r : Int32, oc = .returned (some (.int r)))
    (hfr : rm.frames + 2 ≤ R.frames) (hlo : 2 * g.monitorRoom + (g.stack.map fun v => v.category).sum + (3 + 11) + (8 + (maxL + 11) + rm.locals) ≤ R.locals) (hc : cells + mc ≤ R.cells) (hs : slots + ms ≤ R.slots) :
    ∃ (r : Int32) (st₀ t T' : State) (L : List Loc), st₀.heap = T.heap ∧ Stand p l e R s m args below meth c T' (locs ++ L) (cells + mc) (slots + ms) ∧ (∀ q ∈ L, free q.base) ∧ T'.heap = t.heap ∧ T'.vm = t.vm ∧ Qc #[.ref b, .int n1, .int i, .int j] st₀ (.returned (some (.int r))) t ∧
      ∀ acts, Steps p.tables e below (doInvoke e (T.setTop g) acts ⟨cK, 1⟩ #[.ref a, .int i, .int j]).1 (T'.setTop { g with pc := g.pc + len, stack := .int r :: g.stack }) := by
  obtain ⟨kK, tk, methk, ck, toy, tg, file, hk, hkn, hfile, hpool, hmk, hck, hbytes, hml, hlk, hfl, hretk, htoy, htk, hitf, hask, hready, hcready, hflds, hty, hkind⟩ := hLM
  obtain ⟨Y₀, hin⟩ := X.into hg hsize hdg #[.ref a, .int i, .int j] (R' := { frames := rm.frames + 1, cells := mc, slots := ms, locals := 8 + (maxL + 11) + rm.locals }) hmk hck hlk (State.plainMethod.of_name (fun k' hk' => by cases hk.symm.trans hk'; rw [hkn]; decide)) (by show rm.frames + 1 + 1 ≤ _; omega) (by rw [hml]; exact hlo) hc hs
  have hlocE : entryFrame ⟨cK, 1⟩ #[.ref a, .int i, .int j] ck.maxLocals = { method := ⟨cK, 1⟩, pc := 0, locals := #[.val (.ref a), .val (.int i), .val (.int j)], stack := [], locked := none } := by rw [hml]; rfl
  rw [hlocE] at Y₀ hin
  generalize hU : (T.setTop g).pushFrame (.java { method := ⟨cK, 1⟩, pc := 0, locals := #[.val (.ref a), .val (.int i), .val (.int j)], stack := [], locked := none }) = U at Y₀ hin
  have hvm : U.vm = T.vm := by rw [← hU]; rfl
  have hheap : U.heap = T.heap := by rw [← hU]; rfl
  obtain ⟨mkY, methY, hnY, hmY, hstY, habY⟩ := Cond.instanceMethod_spec hinst
  obtain ⟨c2, r2, m2, q1, q2, q3, q4, kP, hkP, hkPi⟩ := Cond.selects_spec hsel
  have hyh : y.cls ≠ "java/lang/invoke/MethodHandle" ∧ y.cls ≠ "java/lang/invoke/VarHandle" := by rw [hy]; exact (lm_impl 2 (by decide)).2.2.2.2.2.2.2.2.2
  cases hclB.symm.trans q1
  have hmf := State.methodFound?_of_named hnY hyh
  cases hmf.symm.trans q2
  cases hnY.symm.trans q3
  have htg : tg = mkY := by
    obtain ⟨i1, i2, i3, -⟩ := lm_impl 2 (by decide)
    rw [hy, ← i1, ← i2, i3] at hmf
    simp only [State.methodFound?, htoy, htk, Option.bind_eq_bind, Option.bind_some] at hmf
    rw [hask] at hmf
    exact Option.some.inj hmf
  subst htg
  obtain ⟨methY', cY, hmY', hcY, -, -, -, -, -, hsigY⟩ := Cond.code_spec hnY hcodeT
  cases hmY.symm.trans hmY'
  have hparY : methY.sig.parameters.length = 3 := by
    rw [hy] at hsigY
    have h9 : (parseMethodDescriptor (lmY 2).desc).map (fun d => d.parameters.length) = some 3 := by decide +kernel
    rw [hsigY] at h9
    exact Option.some.inj h9
  have hpoly : signaturePolymorphic kP methY = false := by
    obtain ⟨kP', hkP', hnmP⟩ := className_of_methodNamed hnY
    cases hkP.symm.trans hkP'
    exact signaturePolymorphic_of_name (by rw [hnmP]; exact hyh) methY
  have hselP : selectMethod e.platform T.vm cB.cls tg = .method tg := by rw [Launch.admits_selectMethod X.admits]; exact q4
  have hK : Back l { frames := rm.frames + 1, cells := mc, slots := ms, locals := 8 + (maxL + 11) + rm.locals } p e (.java g :: below) (T.calling g ⟨cK, 1⟩ #[.ref a, .int i, .int j]) #[.ref a, .int i, .int j] y 3 8 (PreOf { frames := rm.frames + 1, cells := mc, slots := ms, locals := 8 + (maxL + 11) + rm.locals } mc ms Pc) (PostOf Qc mc ms free) :=
    back_of (bytes := bytes) (maxL := maxL) (ret := ret) hM hblind hrc hrs (Nat.le_refl _) (Nat.le_refl _) (fun w hw a' U hW => hws w hw a' U hW) hcode (fun a' U hW => hini a' U hW)
  have hnYU : U.methodNamed? y = some tg := by
    have h9 : (T.setVm U.vm).methodNamed? y = T.methodNamed? y := by rw [hvm]; rfl
    exact h9.trans hnY
  obtain ⟨v, B, Y₁, ⟨g', mk', t, L, e1, e2, hq, h1, hL, h2, h3⟩, hsteps⟩ := hK ⟨cK, 1⟩ methk ck ⟨U, [], 0, 0⟩ { method := ⟨cK, 1⟩, pc := 10, locals := #[.val (.ref a), .val (.int i), .val (.int j)], stack := [], locked := none } (.invokevirtual 27) tg #[.ref b, .int n1, .int i, .int j] Y₀ rfl (by rw [hml]; rfl) (by rw [hbytes]; exact lm_d2_10) (by show 2 * 0 + 0 ≤ 8; decide) hnYU ⟨by show 0 + mc ≤ mc; omega, by show 0 + ms ≤ ms; omega, hPc U hheap (by rw [hvm]; exact State.WarmedH.refl T)⟩
  dsimp only [Pt.U, Pt.locs, Pt.cells, Pt.slots] at h1 h2 h3 hsteps e1 e2 Y₁
  obtain ⟨r, hr⟩ := hQ _ _ _ _ hq
  obtain rfl : v = some (.int r) := Outcome.returned.inj hr
  obtain ⟨fs, hleave, -, hended, hWe, hsame⟩ := Y₁.leave (v := some (.int r)) (fun h => by rw [hretk] at h; cases h) hlk
  obtain ⟨T', X', hW', -, ht⟩ := X.outOf hg hdg hended hWe hsame
  rw [h1, h2, h3] at X'
  refine ⟨r, (U.calling g' mk' #[.ref b, .int n1, .int i, .int j]), t, T', [] ++ L, hheap, by simpa using X', by simpa using hL, ?_, ?_, hq, fun acts => ?_⟩
  · rw [← e1]; exact (congrArg State.heap ht).symm
  · rw [← e2]; exact (congrArg State.vm ht).symm
  rw [hin acts]
  show Steps p.tables e below _ (T'.setTop { g with pc := g.pc + len, stack := (some (Value.int r)).toList ++ g.stack })
  rw [← ht]
  refine Steps.weaken (mid := [.java g]) ?_
  have hs : U.topJava?.isSome := Y₀.here.top
  obtain ⟨f0, hf0, hf0s, hf0z⟩ := hflds 0 (by decide)
  obtain ⟨f1, hf1, hf1s, hf1z⟩ := hflds 1 (by decide)
  jvm_step Y₀.here [hexec, hbytes, lm_d2_0, Value.isRef]
  jvm_step Y₀.here [hexec, hbytes, lm_d2_1, getfield.wp_ready (index := 17) (e := e) (s := U) (c := cK) (field := f0) (a := a) (rest := []) (cell := { cls := cK, slots := (lmVals 2 b n1 n2 n3).toArray, vm := .none }) (v := .ref b)
    (f := { method := ⟨cK, 1⟩, pc := 1, locals := #[.val (.ref a), .val (.int i), .val (.int j)], stack := [.ref a], locked := none }) hs (by rw [hvm]; exact hf0) hf0s rfl (by rw [hheap]; exact hcell) (by simp) (by rw [hf0z]; rfl)]
  jvm_step Y₀.here [hexec, hbytes, lm_d2_4, Value.isRef]
  jvm_step Y₀.here [hexec, hbytes, lm_d2_5, getfield.wp_ready (index := 19) (e := e) (s := U) (c := cK) (field := f1) (a := a) (rest := [.ref b]) (cell := { cls := cK, slots := (lmVals 2 b n1 n2 n3).toArray, vm := .none }) (v := .int n1)
    (f := { method := ⟨cK, 1⟩, pc := 5, locals := #[.val (.ref a), .val (.int i), .val (.int j)], stack := [.ref a, .ref b], locked := none }) hs (by rw [hvm]; exact hf1) hf1s rfl (by rw [hheap]; exact hcell) (by simp) (by rw [hf1z]; rfl)]
  jvm_step Y₀.here [hexec, hbytes, lm_d2_8]
  jvm_step Y₀.here [hexec, hbytes, lm_d2_9]
  jvm_step Y₀.here [hexec, hbytes, lm_d2_10, invokevirtual.wp_ready (index := 27) (e := e) (s := U) (r := tg) (m := tg) (k := kP) (mk := kP) (rmeth := methY) (meth := methY) (a := b) (args := [.int n1, .int i, .int j]) (rest := []) (cell := cB)
    (f := { method := ⟨cK, 1⟩, pc := 10, locals := #[.val (.ref a), .val (.int i), .val (.int j)], stack := [.int j, .int i, .int n1, .ref b], locked := none }) hs (by
      rw [show lmC 2 = 23 from rfl] at hcready
      exact ⟨kK, file, 23, 26, toy, tk, by rw [hvm]; exact hk, hfile, by rw [hpool]; exact (lm_eM 2 (by decide)).1, by rw [hvm]; exact hcready, by rw [hvm]; exact htk, hitf⟩) (by rw [hvm]; exact hready) (by rw [hvm]; exact hkP) (by rw [hvm]; exact hmY) hpoly hstY hparY.symm rfl
    (by rw [hheap]; exact hcB) (fun z h => by rw [h] at hoB; cases hoB) (by rw [hvm]; exact hselP) (by rw [hvm]; exact hmY) habY (by rw [hvm]; exact hkP) hkPi]
  intro acts'
  rw [doInvoke_state]
  refine hsteps.trans ?_
  show Steps p.tables e (.java g :: below) (B.U.setTop { method := ⟨cK, 1⟩, pc := 13, locals := #[.val (.ref a), .val (.int i), .val (.int j)], stack := [.int r], locked := none }) _
  jvm_step Y₁.here [Y₁.here.top, hexec, hbytes, lm_d2_13, (show B.U.vm.method? ⟨cK, 1⟩ = some methk from Y₁.method'), hretk, narrow]
  intro acts''
  rw [hleave { method := ⟨cK, 1⟩, pc := 13, locals := #[.val (.ref a), .val (.int i), .val (.int j)], stack := [], locked := none } acts'' rfl rfl rfl]
  exact Steps.refl _
theorem lm_d3_0 : decode (lmB 3) 0 = .ok (.aload_n 0, 1) := by decide +kernel
theorem lm_d3_1 : decode (lmB 3) 1 = .ok (.getfield 17, 3) := by decide +kernel
theorem lm_d3_4 : decode (lmB 3) 4 = .ok (.aload_n 0, 1) := by decide +kernel
theorem lm_d3_5 : decode (lmB 3) 5 = .ok (.getfield 19, 3) := by decide +kernel
theorem lm_d3_8 : decode (lmB 3) 8 = .ok (.iload_n 1, 1) := by decide +kernel
theorem lm_d3_9 : decode (lmB 3) 9 = .ok (.iload_n 2, 1) := by decide +kernel
theorem lm_d3_10 : decode (lmB 3) 10 = .ok (.invokevirtual 27, 3) := by decide +kernel
theorem lm_d3_13 : decode (lmB 3) 13 = .ok (.ireturn, 1) := by decide +kernel
set_option maxHeartbeats 4000000 in
/-- the call of an object of the lambda 3, where the frame of Cell.at is entered -/
theorem lm_in3 {p : Program} {l : Launch} {e : Env} {R : Room} {s : State} {m : MethodId} {args : Array Value} {below : List Frame} {meth : Method} {c : Code} {T : State} {locs : List Loc} {cells slots : Nat} (X : Stand p l e R s m args below meth c T locs cells slots) (hexec : p.tables.exec = Jvm.exec) {g : JFrame} (hg : g.method = m) (hsize : g.locals.size = c.maxLocals) {ig : Instr} {len : Nat} (hdg : decode c.code g.pc = .ok (ig, len)) {cK : ClassId} (hLM : LmK T.vm cK 3) {a b : Addr} {n1 n2 n3 i j : Int32} (hcell : T.heap[a]? = some { cls := cK, slots := (lmVals 3 b n1 n2 n3).toArray, vm := .none })
    {cB : Cell} (hcB : T.heap[b]? = some cB) (hoB : cB.vm.isStatics = false) (hclB : T.vm.findClass "ExactChains$Process" = some cB.cls)
    {y : MethodName} {bytes : ByteArray} {maxL mc ms : Nat} {ret : Option FieldType} {ws : List Cond} {rm : Room} {Pc : Array Value → State → Prop} {Qc : Array Value → State → Outcome → State → Prop} {free : Addr → Prop}
    (hy : y = lmY 3) (hM : Met l y ws rm Pc Qc mc ms free) (hblind : FrameBlind Pc) (hrc : rm.cells = mc) (hrs : rm.slots = ms) (hws : ∀ w ∈ ws, ∀ a' U, T.WarmedH U.vm → w.before a' U = true) (hcode : Cond.code y bytes maxL ret ∈ ws) (hini : ∀ a' U, T.WarmedH U.vm → (Cond.initialized y.cls).before a' U = true)
    (hinst : (Cond.instanceMethod y).before #[] T = true) (hsel : (Cond.selects "ExactChains$Process" y y).before #[] T = true) (hcodeT : (Cond.code y bytes maxL ret).before #[] T = true)
    (hPc : ∀ U : State, U.heap = T.heap → T.WarmedH U.vm → Pc #[.ref b, .int n1, .int i, .int j] U) (hQ : ∀ a st oc t, Qc a st oc t → ∃ r : Int32, oc = .returned (some (.int r)))
    (hfr : rm.frames + 2 ≤ R.frames) (hlo : 2 * g.monitorRoom + (g.stack.map fun v => v.category).sum + (3 + 11) + (8 + (maxL + 11) + rm.locals) ≤ R.locals) (hc : cells + mc ≤ R.cells) (hs : slots + ms ≤ R.slots) :
    ∃ (r : Int32) (st₀ t T' : State) (L : List Loc), st₀.heap = T.heap ∧ Stand p l e R s m args below meth c T' (locs ++ L) (cells + mc) (slots + ms) ∧ (∀ q ∈ L, free q.base) ∧ T'.heap = t.heap ∧ T'.vm = t.vm ∧ Qc #[.ref b, .int n1, .int i, .int j] st₀ (.returned (some (.int r))) t ∧
      ∀ acts, Steps p.tables e below (doInvoke e (T.setTop g) acts ⟨cK, 1⟩ #[.ref a, .int i, .int j]).1 (T'.setTop { g with pc := g.pc + len, stack := .int r :: g.stack }) := by
  obtain ⟨kK, tk, methk, ck, toy, tg, file, hk, hkn, hfile, hpool, hmk, hck, hbytes, hml, hlk, hfl, hretk, htoy, htk, hitf, hask, hready, hcready, hflds, hty, hkind⟩ := hLM
  obtain ⟨Y₀, hin⟩ := X.into hg hsize hdg #[.ref a, .int i, .int j] (R' := { frames := rm.frames + 1, cells := mc, slots := ms, locals := 8 + (maxL + 11) + rm.locals }) hmk hck hlk (State.plainMethod.of_name (fun k' hk' => by cases hk.symm.trans hk'; rw [hkn]; decide)) (by show rm.frames + 1 + 1 ≤ _; omega) (by rw [hml]; exact hlo) hc hs
  have hlocE : entryFrame ⟨cK, 1⟩ #[.ref a, .int i, .int j] ck.maxLocals = { method := ⟨cK, 1⟩, pc := 0, locals := #[.val (.ref a), .val (.int i), .val (.int j)], stack := [], locked := none } := by rw [hml]; rfl
  rw [hlocE] at Y₀ hin
  generalize hU : (T.setTop g).pushFrame (.java { method := ⟨cK, 1⟩, pc := 0, locals := #[.val (.ref a), .val (.int i), .val (.int j)], stack := [], locked := none }) = U at Y₀ hin
  have hvm : U.vm = T.vm := by rw [← hU]; rfl
  have hheap : U.heap = T.heap := by rw [← hU]; rfl
  obtain ⟨mkY, methY, hnY, hmY, hstY, habY⟩ := Cond.instanceMethod_spec hinst
  obtain ⟨c2, r2, m2, q1, q2, q3, q4, kP, hkP, hkPi⟩ := Cond.selects_spec hsel
  have hyh : y.cls ≠ "java/lang/invoke/MethodHandle" ∧ y.cls ≠ "java/lang/invoke/VarHandle" := by rw [hy]; exact (lm_impl 3 (by decide)).2.2.2.2.2.2.2.2.2
  cases hclB.symm.trans q1
  have hmf := State.methodFound?_of_named hnY hyh
  cases hmf.symm.trans q2
  cases hnY.symm.trans q3
  have htg : tg = mkY := by
    obtain ⟨i1, i2, i3, -⟩ := lm_impl 3 (by decide)
    rw [hy, ← i1, ← i2, i3] at hmf
    simp only [State.methodFound?, htoy, htk, Option.bind_eq_bind, Option.bind_some] at hmf
    rw [hask] at hmf
    exact Option.some.inj hmf
  subst htg
  obtain ⟨methY', cY, hmY', hcY, -, -, -, -, -, hsigY⟩ := Cond.code_spec hnY hcodeT
  cases hmY.symm.trans hmY'
  have hparY : methY.sig.parameters.length = 3 := by
    rw [hy] at hsigY
    have h9 : (parseMethodDescriptor (lmY 3).desc).map (fun d => d.parameters.length) = some 3 := by decide +kernel
    rw [hsigY] at h9
    exact Option.some.inj h9
  have hpoly : signaturePolymorphic kP methY = false := by
    obtain ⟨kP', hkP', hnmP⟩ := className_of_methodNamed hnY
    cases hkP.symm.trans hkP'
    exact signaturePolymorphic_of_name (by rw [hnmP]; exact hyh) methY
  have hselP : selectMethod e.platform T.vm cB.cls tg = .method tg := by rw [Launch.admits_selectMethod X.admits]; exact q4
  have hK : Back l { frames := rm.frames + 1, cells := mc, slots := ms, locals := 8 + (maxL + 11) + rm.locals } p e (.java g :: below) (T.calling g ⟨cK, 1⟩ #[.ref a, .int i, .int j]) #[.ref a, .int i, .int j] y 3 8 (PreOf { frames := rm.frames + 1, cells := mc, slots := ms, locals := 8 + (maxL + 11) + rm.locals } mc ms Pc) (PostOf Qc mc ms free) :=
    back_of (bytes := bytes) (maxL := maxL) (ret := ret) hM hblind hrc hrs (Nat.le_refl _) (Nat.le_refl _) (fun w hw a' U hW => hws w hw a' U hW) hcode (fun a' U hW => hini a' U hW)
  have hnYU : U.methodNamed? y = some tg := by
    have h9 : (T.setVm U.vm).methodNamed? y = T.methodNamed? y := by rw [hvm]; rfl
    exact h9.trans hnY
  obtain ⟨v, B, Y₁, ⟨g', mk', t, L, e1, e2, hq, h1, hL, h2, h3⟩, hsteps⟩ := hK ⟨cK, 1⟩ methk ck ⟨U, [], 0, 0⟩ { method := ⟨cK, 1⟩, pc := 10, locals := #[.val (.ref a), .val (.int i), .val (.int j)], stack := [], locked := none } (.invokevirtual 27) tg #[.ref b, .int n1, .int i, .int j] Y₀ rfl (by rw [hml]; rfl) (by rw [hbytes]; exact lm_d3_10) (by show 2 * 0 + 0 ≤ 8; decide) hnYU ⟨by show 0 + mc ≤ mc; omega, by show 0 + ms ≤ ms; omega, hPc U hheap (by rw [hvm]; exact State.WarmedH.refl T)⟩
  dsimp only [Pt.U, Pt.locs, Pt.cells, Pt.slots] at h1 h2 h3 hsteps e1 e2 Y₁
  obtain ⟨r, hr⟩ := hQ _ _ _ _ hq
  obtain rfl : v = some (.int r) := Outcome.returned.inj hr
  obtain ⟨fs, hleave, -, hended, hWe, hsame⟩ := Y₁.leave (v := some (.int r)) (fun h => by rw [hretk] at h; cases h) hlk
  obtain ⟨T', X', hW', -, ht⟩ := X.outOf hg hdg hended hWe hsame
  rw [h1, h2, h3] at X'
  refine ⟨r, (U.calling g' mk' #[.ref b, .int n1, .int i, .int j]), t, T', [] ++ L, hheap, by simpa using X', by simpa using hL, ?_, ?_, hq, fun acts => ?_⟩
  · rw [← e1]; exact (congrArg State.heap ht).symm
  · rw [← e2]; exact (congrArg State.vm ht).symm
  rw [hin acts]
  show Steps p.tables e below _ (T'.setTop { g with pc := g.pc + len, stack := (some (Value.int r)).toList ++ g.stack })
  rw [← ht]
  refine Steps.weaken (mid := [.java g]) ?_
  have hs : U.topJava?.isSome := Y₀.here.top
  obtain ⟨f0, hf0, hf0s, hf0z⟩ := hflds 0 (by decide)
  obtain ⟨f1, hf1, hf1s, hf1z⟩ := hflds 1 (by decide)
  jvm_step Y₀.here [hexec, hbytes, lm_d3_0, Value.isRef]
  jvm_step Y₀.here [hexec, hbytes, lm_d3_1, getfield.wp_ready (index := 17) (e := e) (s := U) (c := cK) (field := f0) (a := a) (rest := []) (cell := { cls := cK, slots := (lmVals 3 b n1 n2 n3).toArray, vm := .none }) (v := .ref b)
    (f := { method := ⟨cK, 1⟩, pc := 1, locals := #[.val (.ref a), .val (.int i), .val (.int j)], stack := [.ref a], locked := none }) hs (by rw [hvm]; exact hf0) hf0s rfl (by rw [hheap]; exact hcell) (by simp) (by rw [hf0z]; rfl)]
  jvm_step Y₀.here [hexec, hbytes, lm_d3_4, Value.isRef]
  jvm_step Y₀.here [hexec, hbytes, lm_d3_5, getfield.wp_ready (index := 19) (e := e) (s := U) (c := cK) (field := f1) (a := a) (rest := [.ref b]) (cell := { cls := cK, slots := (lmVals 3 b n1 n2 n3).toArray, vm := .none }) (v := .int n1)
    (f := { method := ⟨cK, 1⟩, pc := 5, locals := #[.val (.ref a), .val (.int i), .val (.int j)], stack := [.ref a, .ref b], locked := none }) hs (by rw [hvm]; exact hf1) hf1s rfl (by rw [hheap]; exact hcell) (by simp) (by rw [hf1z]; rfl)]
  jvm_step Y₀.here [hexec, hbytes, lm_d3_8]
  jvm_step Y₀.here [hexec, hbytes, lm_d3_9]
  jvm_step Y₀.here [hexec, hbytes, lm_d3_10, invokevirtual.wp_ready (index := 27) (e := e) (s := U) (r := tg) (m := tg) (k := kP) (mk := kP) (rmeth := methY) (meth := methY) (a := b) (args := [.int n1, .int i, .int j]) (rest := []) (cell := cB)
    (f := { method := ⟨cK, 1⟩, pc := 10, locals := #[.val (.ref a), .val (.int i), .val (.int j)], stack := [.int j, .int i, .int n1, .ref b], locked := none }) hs (by
      rw [show lmC 3 = 23 from rfl] at hcready
      exact ⟨kK, file, 23, 26, toy, tk, by rw [hvm]; exact hk, hfile, by rw [hpool]; exact (lm_eM 3 (by decide)).1, by rw [hvm]; exact hcready, by rw [hvm]; exact htk, hitf⟩) (by rw [hvm]; exact hready) (by rw [hvm]; exact hkP) (by rw [hvm]; exact hmY) hpoly hstY hparY.symm rfl
    (by rw [hheap]; exact hcB) (fun z h => by rw [h] at hoB; cases hoB) (by rw [hvm]; exact hselP) (by rw [hvm]; exact hmY) habY (by rw [hvm]; exact hkP) hkPi]
  intro acts'
  rw [doInvoke_state]
  refine hsteps.trans ?_
  show Steps p.tables e (.java g :: below) (B.U.setTop { method := ⟨cK, 1⟩, pc := 13, locals := #[.val (.ref a), .val (.int i), .val (.int j)], stack := [.int r], locked := none }) _
  jvm_step Y₁.here [Y₁.here.top, hexec, hbytes, lm_d3_13, (show B.U.vm.method? ⟨cK, 1⟩ = some methk from Y₁.method'), hretk, narrow]
  intro acts''
  rw [hleave { method := ⟨cK, 1⟩, pc := 13, locals := #[.val (.ref a), .val (.int i), .val (.int j)], stack := [], locked := none } acts'' rfl rfl rfl]
  exact Steps.refl _
set_option maxHeartbeats 1000000 in
/-- Cell.at on an object of the lambda 0, from the interface's call to its answer -/
theorem lm_run0 {p : Program} {l : Launch} {e : Env} {R : Room} {s : State} {m : MethodId} {args : Array Value} {below : List Frame} {meth : Method} {c : Code} {H : Heap} {locs : List Loc} {cells slots : Nat} {D : HD} {A : Nat → Prop} {cc : ByteArray} {nL index count mc ms maxL : Nat} {own : String} {g : JFrame} {rest : List Value} {a b : Nat} {n1 n2 n3 i j : Int32}
    {bytes : ByteArray} {ret : Option FieldType} {rm : Room} {Pc : Array Value → State → Prop} {Qc : Array Value → State → Outcome → State → Prop} {free : Addr → Prop}
    (S : CallFix p m c cc nL s args lw_all own) (hGr : hG D A s s.heap) (hobj : Cond.instantiable "java/lang/Object" 0 ∈ lw_all) (hlink : Cond.methodLink own index lmAt ∈ lw_all) (hdecl : va_Nw (.declares lmAt) s) (hface : (Cond.interfaceMethod lmAt.cls lmAt.cls lmAt.name lmAt.desc).before args s = true)
    (hcode : Cond.code (lmY 0) bytes maxL ret ∈ lw_all) (hini : Cond.initialized (lmY 0).cls ∈ lw_all) (hinst : Cond.instanceMethod (lmY 0) ∈ lw_all) (hsel : Cond.selects "ExactChains$Process" (lmY 0) (lmY 0) ∈ lw_all)
    (hM : Met l (lmY 0) (ws_ (lmY 0) bytes maxL ret) rm Pc Qc mc ms free) (hrc : rm.cells = mc) (hrs : rm.slots = ms) (hla : H[a]? = some { cls := D.2 100, slots := (lmVals 0 b n1 n2 n3).toArray, vm := .none }) (hp : PreV s H "ExactChains$Process" b Pc [.int n1, .int n2, .int n3, .int i, .int j]) (hQ : ∀ a st oc t, Qc a st oc t → ∃ r : Int32, oc = .returned (some (.int r)))
    (hg : g.method = m) (hsize : g.locals.size = nL) (hstack : g.stack = [Value.int i, .int j].reverse ++ .ref a :: rest) (hW : 2 * g.monitorRoom + (rest.map fun v => v.category).sum ≤ 8) (hdg : decode cc g.pc = .ok (.invokeinterface index count, 5)) (hfr : rm.frames + 2 ≤ R.frames) (hlo : 8 + (3 + 11) + (8 + (maxL + 11) + rm.locals) ≤ R.locals) (hf : cells + mc ≤ R.cells ∧ slots + ms ≤ R.slots) :
    va_Run5 p l e R s m args below meth c H locs cells slots mc ms g rest (Qc #[.ref b, .int n1, .int n2, .int n3, .int i, .int j]) free := by
  obtain ⟨hx, hb, hml, hown, hts⟩ := S
  intro T hT X
  obtain ⟨r0, r, hn, hrm, hstR, hsigR⟩ := Cond.declares_spec hdecl
  obtain ⟨cL, kL, r1', hcL, hkL, hiL, hfoundL, hn1⟩ := Cond.interfaceMethod_spec hface
  cases hn.symm.trans hn1
  have hr0cls : r0.cls = cL := Option.some.inj ((findClass_of_methodNamed hn).symm.trans hcL)
  obtain ⟨hnameR, hdescR⟩ := name_of_methodNamed hn hrm
  obtain ⟨-, -, -, -, -, -, i5, i6, i7, -⟩ := State.lambdaAt?_spec (hGr.lam 0 (by decide))
  obtain ⟨mS, kS, cfS, iS, pS, lS, hnS, hkS, -, -, -, -, hmade, hcan, -⟩ := State.lambdaAt?_spec (hGr.lam 0 (by decide))
  obtain ⟨w1, w2, w3, w4, w5, w6, w7, -⟩ := lm_impl 0 (by decide)
  obtain ⟨-, -, -, -, -, -, -, iface', -, -, -, -, found, -, -, -, -, -, hi', -, -, -, -, -, -, hfound', -, -, -, -, -, -, -, -, -, -, hsl⟩ := Lambda.isMade_spec hmade
  rw [w5] at hi'
  cases hcL.symm.trans hi'
  have hfr0 : found = r0 := by
    have h1 : s.methodFound? lmAt.cls lmAt.name lmAt.desc = some r0 := hfoundL
    simp only [State.methodFound?, hcL, hkL, hiL, Option.bind_eq_bind, Option.bind_some] at h1
    rw [w6, w7] at hfound'
    rw [hfound'] at h1
    exact Option.some.inj h1
  subst hfr0
  obtain ⟨i2, hi2, hasg, hway⟩ := State.lambdaCallable_spec hcan
  rw [w5] at hi2
  cases hcL.symm.trans hi2
  have hLs := (lm_facts (k := 0) (by decide) (hGr.lam 0 (by decide)) (hts _ hobj)).1
  obtain ⟨kK, -, methk, -, -, -, -, hkK, -, -, -, hmk, -, -, -, -, hfl, -⟩ := hLs
  obtain ⟨vm₁, X₁, hstep₁⟩ := X.invokeinterface hx hown (hts _ hlink) hn hrm hstR (by rw [hr0cls]; exact hkL) hiL (by decide) (a := a) (by rw [hT]; exact hla) (fun z h => by cases h) hkK (by rw [hr0cls]; exact hasg)
    (m' := ⟨D.2 100, 1⟩) (meth' := methk) (by rw [Launch.admits_selectMethod X.admits]; exact hsl) hmk (by rw [hnameR, hdescR]; rw [w6, w7] at hway; exact hway) (by rw [hfl]; decide) (by simp [Method.isAbstract, hfl, hasFlag, Acc.abstract]) (g := g) hg (argsL := [.int i, .int j]) (rest := rest)
    (by
      have h9 : (parseMethodDescriptor lmAt.desc).map (fun d => d.parameters.length) = some 2 := by decide +kernel
      rw [hsigR] at h9
      exact (Option.some.inj h9).symm) hstack (by rw [hb]; exact hdg)
  have hWm : s.WarmedH (T.setVm vm₁).vm := X₁.warmed
  have hat : ∀ (w : Cond), w ∈ lw_all → ∀ (a' : Array Value) (U : State), (T.setVm vm₁).WarmedH U.vm → w.before a' U = true := fun w hw a' U hU => word_at (State.WarmedH.trans hWm hU) (lw_self w hw).2 (hts w hw)
  have hrf : (T.setVm vm₁).WarmedH (T.setVm vm₁).vm := State.WarmedH.refl _
  have hLT := (lm_facts (k := 0) (by decide) (lam_ride hWm (hGr.lam 0 (by decide))) (hat _ hobj #[] _ hrf)).1
  obtain ⟨hpb, ⟨cB, hcB, hoB, hclB⟩, hPc⟩ := hp
  obtain ⟨rr, st₀, t, T', L, h0, X', hL, e1, e2, hq, hst⟩ := lm_in0 X₁ hx (g := { g with stack := rest }) hg (hsize.trans hml.symm) (by rw [hb]; exact hdg) hLT (by show T.heap[a]? = _; rw [hT]; exact hla) (by show T.heap[b]? = _; rw [hT]; exact hcB) hoB (by rw [hWm.alike.findClass]; exact hclB)
    rfl hM hpb hrc hrs (fun w hw a' U hU => by
      rcases List.mem_cons.mp hw with h | h
      · rw [h]; exact hat _ hcode a' U hU
      · exact hat _ h a' U hU) List.mem_cons_self (fun a' U hU => hat _ hini a' U hU) (hat _ hinst #[] _ hrf) (hat _ hsel #[] _ hrf) (hat _ hcode #[] _ hrf)
    (fun U hU hWU => hPc U (by rw [hU]; exact hT) (State.WarmedH.trans hWm hWU)) hQ hfr (by show 2 * g.monitorRoom + (rest.map fun v => v.category).sum + (3 + 11) + (8 + (maxL + 11) + rm.locals) ≤ R.locals; omega) hf.1 hf.2
  exact ⟨some (.int rr), st₀, t, T', L, h0.trans hT, X', hL, e1, e2, hq, fun target h => hstep₁ _ fun acts => by
    rw [doInvoke_state]
    exact (hst []).trans h⟩
set_option maxHeartbeats 1000000 in
/-- Cell.at on an object of the lambda 1, from the interface's call to its answer -/
theorem lm_run1 {p : Program} {l : Launch} {e : Env} {R : Room} {s : State} {m : MethodId} {args : Array Value} {below : List Frame} {meth : Method} {c : Code} {H : Heap} {locs : List Loc} {cells slots : Nat} {D : HD} {A : Nat → Prop} {cc : ByteArray} {nL index count mc ms maxL : Nat} {own : String} {g : JFrame} {rest : List Value} {a b : Nat} {n1 n2 n3 i j : Int32}
    {bytes : ByteArray} {ret : Option FieldType} {rm : Room} {Pc : Array Value → State → Prop} {Qc : Array Value → State → Outcome → State → Prop} {free : Addr → Prop}
    (S : CallFix p m c cc nL s args lw_all own) (hGr : hG D A s s.heap) (hobj : Cond.instantiable "java/lang/Object" 0 ∈ lw_all) (hlink : Cond.methodLink own index lmAt ∈ lw_all) (hdecl : va_Nw (.declares lmAt) s) (hface : (Cond.interfaceMethod lmAt.cls lmAt.cls lmAt.name lmAt.desc).before args s = true)
    (hcode : Cond.code (lmY 1) bytes maxL ret ∈ lw_all) (hini : Cond.initialized (lmY 1).cls ∈ lw_all) (hinst : Cond.instanceMethod (lmY 1) ∈ lw_all) (hsel : Cond.selects "ExactChains$Process" (lmY 1) (lmY 1) ∈ lw_all)
    (hM : Met l (lmY 1) (ws_ (lmY 1) bytes maxL ret) rm Pc Qc mc ms free) (hrc : rm.cells = mc) (hrs : rm.slots = ms) (hla : H[a]? = some { cls := D.2 101, slots := (lmVals 1 b n1 n2 n3).toArray, vm := .none }) (hp : PreV s H "ExactChains$Process" b Pc [.int i, .int j]) (hQ : ∀ a st oc t, Qc a st oc t → ∃ r : Int32, oc = .returned (some (.int r)))
    (hg : g.method = m) (hsize : g.locals.size = nL) (hstack : g.stack = [Value.int i, .int j].reverse ++ .ref a :: rest) (hW : 2 * g.monitorRoom + (rest.map fun v => v.category).sum ≤ 8) (hdg : decode cc g.pc = .ok (.invokeinterface index count, 5)) (hfr : rm.frames + 2 ≤ R.frames) (hlo : 8 + (3 + 11) + (8 + (maxL + 11) + rm.locals) ≤ R.locals) (hf : cells + mc ≤ R.cells ∧ slots + ms ≤ R.slots) :
    va_Run5 p l e R s m args below meth c H locs cells slots mc ms g rest (Qc #[.ref b, .int i, .int j]) free := by
  obtain ⟨hx, hb, hml, hown, hts⟩ := S
  intro T hT X
  obtain ⟨r0, r, hn, hrm, hstR, hsigR⟩ := Cond.declares_spec hdecl
  obtain ⟨cL, kL, r1', hcL, hkL, hiL, hfoundL, hn1⟩ := Cond.interfaceMethod_spec hface
  cases hn.symm.trans hn1
  have hr0cls : r0.cls = cL := Option.some.inj ((findClass_of_methodNamed hn).symm.trans hcL)
  obtain ⟨hnameR, hdescR⟩ := name_of_methodNamed hn hrm
  obtain ⟨-, -, -, -, -, -, i5, i6, i7, -⟩ := State.lambdaAt?_spec (hGr.lam 1 (by decide))
  obtain ⟨mS, kS, cfS, iS, pS, lS, hnS, hkS, -, -, -, -, hmade, hcan, -⟩ := State.lambdaAt?_spec (hGr.lam 1 (by decide))
  obtain ⟨w1, w2, w3, w4, w5, w6, w7, -⟩ := lm_impl 1 (by decide)
  obtain ⟨-, -, -, -, -, -, -, iface', -, -, -, -, found, -, -, -, -, -, hi', -, -, -, -, -, -, hfound', -, -, -, -, -, -, -, -, -, -, hsl⟩ := Lambda.isMade_spec hmade
  rw [w5] at hi'
  cases hcL.symm.trans hi'
  have hfr0 : found = r0 := by
    have h1 : s.methodFound? lmAt.cls lmAt.name lmAt.desc = some r0 := hfoundL
    simp only [State.methodFound?, hcL, hkL, hiL, Option.bind_eq_bind, Option.bind_some] at h1
    rw [w6, w7] at hfound'
    rw [hfound'] at h1
    exact Option.some.inj h1
  subst hfr0
  obtain ⟨i2, hi2, hasg, hway⟩ := State.lambdaCallable_spec hcan
  rw [w5] at hi2
  cases hcL.symm.trans hi2
  have hLs := (lm_facts (k := 1) (by decide) (hGr.lam 1 (by decide)) (hts _ hobj)).1
  obtain ⟨kK, -, methk, -, -, -, -, hkK, -, -, -, hmk, -, -, -, -, hfl, -⟩ := hLs
  obtain ⟨vm₁, X₁, hstep₁⟩ := X.invokeinterface hx hown (hts _ hlink) hn hrm hstR (by rw [hr0cls]; exact hkL) hiL (by decide) (a := a) (by rw [hT]; exact hla) (fun z h => by cases h) hkK (by rw [hr0cls]; exact hasg)
    (m' := ⟨D.2 101, 1⟩) (meth' := methk) (by rw [Launch.admits_selectMethod X.admits]; exact hsl) hmk (by rw [hnameR, hdescR]; rw [w6, w7] at hway; exact hway) (by rw [hfl]; decide) (by simp [Method.isAbstract, hfl, hasFlag, Acc.abstract]) (g := g) hg (argsL := [.int i, .int j]) (rest := rest)
    (by
      have h9 : (parseMethodDescriptor lmAt.desc).map (fun d => d.parameters.length) = some 2 := by decide +kernel
      rw [hsigR] at h9
      exact (Option.some.inj h9).symm) hstack (by rw [hb]; exact hdg)
  have hWm : s.WarmedH (T.setVm vm₁).vm := X₁.warmed
  have hat : ∀ (w : Cond), w ∈ lw_all → ∀ (a' : Array Value) (U : State), (T.setVm vm₁).WarmedH U.vm → w.before a' U = true := fun w hw a' U hU => word_at (State.WarmedH.trans hWm hU) (lw_self w hw).2 (hts w hw)
  have hrf : (T.setVm vm₁).WarmedH (T.setVm vm₁).vm := State.WarmedH.refl _
  have hLT := (lm_facts (k := 1) (by decide) (lam_ride hWm (hGr.lam 1 (by decide))) (hat _ hobj #[] _ hrf)).1
  obtain ⟨hpb, ⟨cB, hcB, hoB, hclB⟩, hPc⟩ := hp
  obtain ⟨rr, st₀, t, T', L, h0, X', hL, e1, e2, hq, hst⟩ := lm_in1 X₁ hx (g := { g with stack := rest }) hg (hsize.trans hml.symm) (by rw [hb]; exact hdg) hLT (by show T.heap[a]? = _; rw [hT]; exact hla) (by show T.heap[b]? = _; rw [hT]; exact hcB) hoB (by rw [hWm.alike.findClass]; exact hclB)
    rfl hM hpb hrc hrs (fun w hw a' U hU => by
      rcases List.mem_cons.mp hw with h | h
      · rw [h]; exact hat _ hcode a' U hU
      · exact hat _ h a' U hU) List.mem_cons_self (fun a' U hU => hat _ hini a' U hU) (hat _ hinst #[] _ hrf) (hat _ hsel #[] _ hrf) (hat _ hcode #[] _ hrf)
    (fun U hU hWU => hPc U (by rw [hU]; exact hT) (State.WarmedH.trans hWm hWU)) hQ hfr (by show 2 * g.monitorRoom + (rest.map fun v => v.category).sum + (3 + 11) + (8 + (maxL + 11) + rm.locals) ≤ R.locals; omega) hf.1 hf.2
  exact ⟨some (.int rr), st₀, t, T', L, h0.trans hT, X', hL, e1, e2, hq, fun target h => hstep₁ _ fun acts => by
    rw [doInvoke_state]
    exact (hst []).trans h⟩
set_option maxHeartbeats 1000000 in
/-- Cell.at on an object of the lambda 2, from the interface's call to its answer -/
theorem lm_run2 {p : Program} {l : Launch} {e : Env} {R : Room} {s : State} {m : MethodId} {args : Array Value} {below : List Frame} {meth : Method} {c : Code} {H : Heap} {locs : List Loc} {cells slots : Nat} {D : HD} {A : Nat → Prop} {cc : ByteArray} {nL index count mc ms maxL : Nat} {own : String} {g : JFrame} {rest : List Value} {a b : Nat} {n1 n2 n3 i j : Int32}
    {bytes : ByteArray} {ret : Option FieldType} {rm : Room} {Pc : Array Value → State → Prop} {Qc : Array Value → State → Outcome → State → Prop} {free : Addr → Prop}
    (S : CallFix p m c cc nL s args lw_all own) (hGr : hG D A s s.heap) (hobj : Cond.instantiable "java/lang/Object" 0 ∈ lw_all) (hlink : Cond.methodLink own index lmAt ∈ lw_all) (hdecl : va_Nw (.declares lmAt) s) (hface : (Cond.interfaceMethod lmAt.cls lmAt.cls lmAt.name lmAt.desc).before args s = true)
    (hcode : Cond.code (lmY 2) bytes maxL ret ∈ lw_all) (hini : Cond.initialized (lmY 2).cls ∈ lw_all) (hinst : Cond.instanceMethod (lmY 2) ∈ lw_all) (hsel : Cond.selects "ExactChains$Process" (lmY 2) (lmY 2) ∈ lw_all)
    (hM : Met l (lmY 2) (ws_ (lmY 2) bytes maxL ret) rm Pc Qc mc ms free) (hrc : rm.cells = mc) (hrs : rm.slots = ms) (hla : H[a]? = some { cls := D.2 102, slots := (lmVals 2 b n1 n2 n3).toArray, vm := .none }) (hp : PreV s H "ExactChains$Process" b Pc [.int n1, .int i, .int j]) (hQ : ∀ a st oc t, Qc a st oc t → ∃ r : Int32, oc = .returned (some (.int r)))
    (hg : g.method = m) (hsize : g.locals.size = nL) (hstack : g.stack = [Value.int i, .int j].reverse ++ .ref a :: rest) (hW : 2 * g.monitorRoom + (rest.map fun v => v.category).sum ≤ 8) (hdg : decode cc g.pc = .ok (.invokeinterface index count, 5)) (hfr : rm.frames + 2 ≤ R.frames) (hlo : 8 + (3 + 11) + (8 + (maxL + 11) + rm.locals) ≤ R.locals) (hf : cells + mc ≤ R.cells ∧ slots + ms ≤ R.slots) :
    va_Run5 p l e R s m args below meth c H locs cells slots mc ms g rest (Qc #[.ref b, .int n1, .int i, .int j]) free := by
  obtain ⟨hx, hb, hml, hown, hts⟩ := S
  intro T hT X
  obtain ⟨r0, r, hn, hrm, hstR, hsigR⟩ := Cond.declares_spec hdecl
  obtain ⟨cL, kL, r1', hcL, hkL, hiL, hfoundL, hn1⟩ := Cond.interfaceMethod_spec hface
  cases hn.symm.trans hn1
  have hr0cls : r0.cls = cL := Option.some.inj ((findClass_of_methodNamed hn).symm.trans hcL)
  obtain ⟨hnameR, hdescR⟩ := name_of_methodNamed hn hrm
  obtain ⟨-, -, -, -, -, -, i5, i6, i7, -⟩ := State.lambdaAt?_spec (hGr.lam 2 (by decide))
  obtain ⟨mS, kS, cfS, iS, pS, lS, hnS, hkS, -, -, -, -, hmade, hcan, -⟩ := State.lambdaAt?_spec (hGr.lam 2 (by decide))
  obtain ⟨w1, w2, w3, w4, w5, w6, w7, -⟩ := lm_impl 2 (by decide)
  obtain ⟨-, -, -, -, -, -, -, iface', -, -, -, -, found, -, -, -, -, -, hi', -, -, -, -, -, -, hfound', -, -, -, -, -, -, -, -, -, -, hsl⟩ := Lambda.isMade_spec hmade
  rw [w5] at hi'
  cases hcL.symm.trans hi'
  have hfr0 : found = r0 := by
    have h1 : s.methodFound? lmAt.cls lmAt.name lmAt.desc = some r0 := hfoundL
    simp only [State.methodFound?, hcL, hkL, hiL, Option.bind_eq_bind, Option.bind_some] at h1
    rw [w6, w7] at hfound'
    rw [hfound'] at h1
    exact Option.some.inj h1
  subst hfr0
  obtain ⟨i2, hi2, hasg, hway⟩ := State.lambdaCallable_spec hcan
  rw [w5] at hi2
  cases hcL.symm.trans hi2
  have hLs := (lm_facts (k := 2) (by decide) (hGr.lam 2 (by decide)) (hts _ hobj)).1
  obtain ⟨kK, -, methk, -, -, -, -, hkK, -, -, -, hmk, -, -, -, -, hfl, -⟩ := hLs
  obtain ⟨vm₁, X₁, hstep₁⟩ := X.invokeinterface hx hown (hts _ hlink) hn hrm hstR (by rw [hr0cls]; exact hkL) hiL (by decide) (a := a) (by rw [hT]; exact hla) (fun z h => by cases h) hkK (by rw [hr0cls]; exact hasg)
    (m' := ⟨D.2 102, 1⟩) (meth' := methk) (by rw [Launch.admits_selectMethod X.admits]; exact hsl) hmk (by rw [hnameR, hdescR]; rw [w6, w7] at hway; exact hway) (by rw [hfl]; decide) (by simp [Method.isAbstract, hfl, hasFlag, Acc.abstract]) (g := g) hg (argsL := [.int i, .int j]) (rest := rest)
    (by
      have h9 : (parseMethodDescriptor lmAt.desc).map (fun d => d.parameters.length) = some 2 := by decide +kernel
      rw [hsigR] at h9
      exact (Option.some.inj h9).symm) hstack (by rw [hb]; exact hdg)
  have hWm : s.WarmedH (T.setVm vm₁).vm := X₁.warmed
  have hat : ∀ (w : Cond), w ∈ lw_all → ∀ (a' : Array Value) (U : State), (T.setVm vm₁).WarmedH U.vm → w.before a' U = true := fun w hw a' U hU => word_at (State.WarmedH.trans hWm hU) (lw_self w hw).2 (hts w hw)
  have hrf : (T.setVm vm₁).WarmedH (T.setVm vm₁).vm := State.WarmedH.refl _
  have hLT := (lm_facts (k := 2) (by decide) (lam_ride hWm (hGr.lam 2 (by decide))) (hat _ hobj #[] _ hrf)).1
  obtain ⟨hpb, ⟨cB, hcB, hoB, hclB⟩, hPc⟩ := hp
  obtain ⟨rr, st₀, t, T', L, h0, X', hL, e1, e2, hq, hst⟩ := lm_in2 X₁ hx (g := { g with stack := rest }) hg (hsize.trans hml.symm) (by rw [hb]; exact hdg) hLT (by show T.heap[a]? = _; rw [hT]; exact hla) (by show T.heap[b]? = _; rw [hT]; exact hcB) hoB (by rw [hWm.alike.findClass]; exact hclB)
    rfl hM hpb hrc hrs (fun w hw a' U hU => by
      rcases List.mem_cons.mp hw with h | h
      · rw [h]; exact hat _ hcode a' U hU
      · exact hat _ h a' U hU) List.mem_cons_self (fun a' U hU => hat _ hini a' U hU) (hat _ hinst #[] _ hrf) (hat _ hsel #[] _ hrf) (hat _ hcode #[] _ hrf)
    (fun U hU hWU => hPc U (by rw [hU]; exact hT) (State.WarmedH.trans hWm hWU)) hQ hfr (by show 2 * g.monitorRoom + (rest.map fun v => v.category).sum + (3 + 11) + (8 + (maxL + 11) + rm.locals) ≤ R.locals; omega) hf.1 hf.2
  exact ⟨some (.int rr), st₀, t, T', L, h0.trans hT, X', hL, e1, e2, hq, fun target h => hstep₁ _ fun acts => by
    rw [doInvoke_state]
    exact (hst []).trans h⟩
set_option maxHeartbeats 1000000 in
/-- Cell.at on an object of the lambda 3, from the interface's call to its answer -/
theorem lm_run3 {p : Program} {l : Launch} {e : Env} {R : Room} {s : State} {m : MethodId} {args : Array Value} {below : List Frame} {meth : Method} {c : Code} {H : Heap} {locs : List Loc} {cells slots : Nat} {D : HD} {A : Nat → Prop} {cc : ByteArray} {nL index count mc ms maxL : Nat} {own : String} {g : JFrame} {rest : List Value} {a b : Nat} {n1 n2 n3 i j : Int32}
    {bytes : ByteArray} {ret : Option FieldType} {rm : Room} {Pc : Array Value → State → Prop} {Qc : Array Value → State → Outcome → State → Prop} {free : Addr → Prop}
    (S : CallFix p m c cc nL s args lw_all own) (hGr : hG D A s s.heap) (hobj : Cond.instantiable "java/lang/Object" 0 ∈ lw_all) (hlink : Cond.methodLink own index lmAt ∈ lw_all) (hdecl : va_Nw (.declares lmAt) s) (hface : (Cond.interfaceMethod lmAt.cls lmAt.cls lmAt.name lmAt.desc).before args s = true)
    (hcode : Cond.code (lmY 3) bytes maxL ret ∈ lw_all) (hini : Cond.initialized (lmY 3).cls ∈ lw_all) (hinst : Cond.instanceMethod (lmY 3) ∈ lw_all) (hsel : Cond.selects "ExactChains$Process" (lmY 3) (lmY 3) ∈ lw_all)
    (hM : Met l (lmY 3) (ws_ (lmY 3) bytes maxL ret) rm Pc Qc mc ms free) (hrc : rm.cells = mc) (hrs : rm.slots = ms) (hla : H[a]? = some { cls := D.2 103, slots := (lmVals 3 b n1 n2 n3).toArray, vm := .none }) (hp : PreV s H "ExactChains$Process" b Pc [.int n1, .int i, .int j]) (hQ : ∀ a st oc t, Qc a st oc t → ∃ r : Int32, oc = .returned (some (.int r)))
    (hg : g.method = m) (hsize : g.locals.size = nL) (hstack : g.stack = [Value.int i, .int j].reverse ++ .ref a :: rest) (hW : 2 * g.monitorRoom + (rest.map fun v => v.category).sum ≤ 8) (hdg : decode cc g.pc = .ok (.invokeinterface index count, 5)) (hfr : rm.frames + 2 ≤ R.frames) (hlo : 8 + (3 + 11) + (8 + (maxL + 11) + rm.locals) ≤ R.locals) (hf : cells + mc ≤ R.cells ∧ slots + ms ≤ R.slots) :
    va_Run5 p l e R s m args below meth c H locs cells slots mc ms g rest (Qc #[.ref b, .int n1, .int i, .int j]) free := by
  obtain ⟨hx, hb, hml, hown, hts⟩ := S
  intro T hT X
  obtain ⟨r0, r, hn, hrm, hstR, hsigR⟩ := Cond.declares_spec hdecl
  obtain ⟨cL, kL, r1', hcL, hkL, hiL, hfoundL, hn1⟩ := Cond.interfaceMethod_spec hface
  cases hn.symm.trans hn1
  have hr0cls : r0.cls = cL := Option.some.inj ((findClass_of_methodNamed hn).symm.trans hcL)
  obtain ⟨hnameR, hdescR⟩ := name_of_methodNamed hn hrm
  obtain ⟨-, -, -, -, -, -, i5, i6, i7, -⟩ := State.lambdaAt?_spec (hGr.lam 3 (by decide))
  obtain ⟨mS, kS, cfS, iS, pS, lS, hnS, hkS, -, -, -, -, hmade, hcan, -⟩ := State.lambdaAt?_spec (hGr.lam 3 (by decide))
  obtain ⟨w1, w2, w3, w4, w5, w6, w7, -⟩ := lm_impl 3 (by decide)
  obtain ⟨-, -, -, -, -, -, -, iface', -, -, -, -, found, -, -, -, -, -, hi', -, -, -, -, -, -, hfound', -, -, -, -, -, -, -, -, -, -, hsl⟩ := Lambda.isMade_spec hmade
  rw [w5] at hi'
  cases hcL.symm.trans hi'
  have hfr0 : found = r0 := by
    have h1 : s.methodFound? lmAt.cls lmAt.name lmAt.desc = some r0 := hfoundL
    simp only [State.methodFound?, hcL, hkL, hiL, Option.bind_eq_bind, Option.bind_some] at h1
    rw [w6, w7] at hfound'
    rw [hfound'] at h1
    exact Option.some.inj h1
  subst hfr0
  obtain ⟨i2, hi2, hasg, hway⟩ := State.lambdaCallable_spec hcan
  rw [w5] at hi2
  cases hcL.symm.trans hi2
  have hLs := (lm_facts (k := 3) (by decide) (hGr.lam 3 (by decide)) (hts _ hobj)).1
  obtain ⟨kK, -, methk, -, -, -, -, hkK, -, -, -, hmk, -, -, -, -, hfl, -⟩ := hLs
  obtain ⟨vm₁, X₁, hstep₁⟩ := X.invokeinterface hx hown (hts _ hlink) hn hrm hstR (by rw [hr0cls]; exact hkL) hiL (by decide) (a := a) (by rw [hT]; exact hla) (fun z h => by cases h) hkK (by rw [hr0cls]; exact hasg)
    (m' := ⟨D.2 103, 1⟩) (meth' := methk) (by rw [Launch.admits_selectMethod X.admits]; exact hsl) hmk (by rw [hnameR, hdescR]; rw [w6, w7] at hway; exact hway) (by rw [hfl]; decide) (by simp [Method.isAbstract, hfl, hasFlag, Acc.abstract]) (g := g) hg (argsL := [.int i, .int j]) (rest := rest)
    (by
      have h9 : (parseMethodDescriptor lmAt.desc).map (fun d => d.parameters.length) = some 2 := by decide +kernel
      rw [hsigR] at h9
      exact (Option.some.inj h9).symm) hstack (by rw [hb]; exact hdg)
  have hWm : s.WarmedH (T.setVm vm₁).vm := X₁.warmed
  have hat : ∀ (w : Cond), w ∈ lw_all → ∀ (a' : Array Value) (U : State), (T.setVm vm₁).WarmedH U.vm → w.before a' U = true := fun w hw a' U hU => word_at (State.WarmedH.trans hWm hU) (lw_self w hw).2 (hts w hw)
  have hrf : (T.setVm vm₁).WarmedH (T.setVm vm₁).vm := State.WarmedH.refl _
  have hLT := (lm_facts (k := 3) (by decide) (lam_ride hWm (hGr.lam 3 (by decide))) (hat _ hobj #[] _ hrf)).1
  obtain ⟨hpb, ⟨cB, hcB, hoB, hclB⟩, hPc⟩ := hp
  obtain ⟨rr, st₀, t, T', L, h0, X', hL, e1, e2, hq, hst⟩ := lm_in3 X₁ hx (g := { g with stack := rest }) hg (hsize.trans hml.symm) (by rw [hb]; exact hdg) hLT (by show T.heap[a]? = _; rw [hT]; exact hla) (by show T.heap[b]? = _; rw [hT]; exact hcB) hoB (by rw [hWm.alike.findClass]; exact hclB)
    rfl hM hpb hrc hrs (fun w hw a' U hU => by
      rcases List.mem_cons.mp hw with h | h
      · rw [h]; exact hat _ hcode a' U hU
      · exact hat _ h a' U hU) List.mem_cons_self (fun a' U hU => hat _ hini a' U hU) (hat _ hinst #[] _ hrf) (hat _ hsel #[] _ hrf) (hat _ hcode #[] _ hrf)
    (fun U hU hWU => hPc U (by rw [hU]; exact hT) (State.WarmedH.trans hWm hWU)) hQ hfr (by show 2 * g.monitorRoom + (rest.map fun v => v.category).sum + (3 + 11) + (8 + (maxL + 11) + rm.locals) ≤ R.locals; omega) hf.1 hf.2
  exact ⟨some (.int rr), st₀, t, T', L, h0.trans hT, X', hL, e1, e2, hq, fun target h => hstep₁ _ fun acts => by
    rw [doInvoke_state]
    exact (hst []).trans h⟩
