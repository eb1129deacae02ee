/-! the abstract heap of the component: addresses to cells; the least address that may be written, the heap's size, cells and slots used -/
abbrev Hp : Type := (Nat → Option va_E) × (Nat × (Nat × (Nat × Nat)))
abbrev HD : Type := va_G × (Nat → ClassId)
def hLo (h : Hp) : Nat := h.2.1
def hSz (h : Hp) : Nat := h.2.2.1
def hCc (h : Hp) : Nat := h.2.2.2.1
def hSl (h : Hp) : Nat := h.2.2.2.2
def hPut (h : Hp) (a : Nat) (e : va_E) : Hp := (fun q => if q = a then some e else h.1 q, h.2)
def hNew (h : Hp) (e : va_E) (n : Nat) : Hp := (fun q => if q = hSz h then some e else h.1 q, (hLo h, hSz h + 1, hCc h + 1, hSl h + n))
def hle (h h' : Hp) : Prop := hSz h ≤ hSz h' ∧ hCc h ≤ hCc h' ∧ hSl h ≤ hSl h'
theorem hle_rf {h : Hp} : hle h h := ⟨Nat.le_refl _, Nat.le_refl _, Nat.le_refl _⟩
theorem hle_tr {a b c : Hp} (h1 : hle a b) (h2 : hle b c) : hle a c := ⟨Nat.le_trans h1.1 h2.1, Nat.le_trans h1.2.1 h2.2.1, Nat.le_trans h1.2.2 h2.2.2⟩
theorem hle_put {h : Hp} {a : Nat} {e : va_E} : hle h (hPut h a e) := hle_rf
theorem hle_new {h : Hp} {e : va_E} {n : Nat} : hle h (hNew h e n) := ⟨Nat.le_succ _, Nat.le_succ _, Nat.le_add_right _ _⟩
/-- a cell holds what the abstract one says: kinds of arrays and classes by number; from 100 on: objects of a lambda's class -/
def cAt (D : HD) (q : Nat) (e : va_E) (H : Heap) : Prop := match e with
  | .inl (k, x) => va_at D.1 vwCl (q, .inl (D.2 k, x)) H
  | .inr (ci, fs) => if ci < 100 then va_at D.1 vwCl (q, .inr (ci, fs)) H else H[q]? = some { cls := D.2 ci, slots := fs.toArray, vm := .none }
theorem cAt.kept {D : HD} {q : Nat} {e : va_E} {H H1 : Heap} (h : cAt D q e H) (hq : H1[q]? = H[q]?) : cAt D q e H1 := by
  cases e with
  | inl x => exact va_at.kept (D := D.1) (cl := vwCl) (q := (q, .inl (D.2 x.1, x.2))) h hq
  | inr x =>
    unfold cAt at h ⊢
    by_cases hx : x.1 < 100
    · simp only [hx, if_true] at h ⊢
      exact va_at.kept (D := D.1) (cl := vwCl) (q := (q, .inr (x.1, x.2))) h hq
    · simp only [hx, if_false] at h ⊢
      rw [hq]; exact h
theorem cAt.lt {D : HD} {q : Nat} {e : va_E} {H : Heap} (h : cAt D q e H) : q < H.size := by
  cases e with
  | inl x => exact va_at.lt (D := D.1) (cl := vwCl) (q := (q, .inl (D.2 x.1, x.2))) h
  | inr x =>
    unfold cAt at h
    by_cases hx : x.1 < 100
    · simp only [hx, if_true] at h
      exact va_at.lt (D := D.1) (cl := vwCl) (q := (q, .inr (x.1, x.2))) h
    · simp only [hx, if_false] at h
      exact (Array.getElem?_eq_some_iff.mp h).1
def hR (D : HD) (A : Nat → Prop) (h : Hp) (H : Heap) : Prop := H.size = hSz h ∧ (∀ q e, h.1 q = some e → cAt D q e H) ∧ (∀ q e, h.1 q = some e → hLo h ≤ q → A q) ∧ ∀ q, hSz h ≤ q → A q
def tyL (dA : Nat → ClassId) : List (ClassId × FieldType) := [(dA 0, .int), (dA 1, .byte), (dA 2, .object "java/lang/Object"), (dA 3, .object "ExactChains$Process"), (dA 4, .array .int), (dA 5, .long)]
/-- words of the tables that ride along beside the lists -/
def nwk (w : Cond) : Bool := match w with
  | .fieldLinkNest _ _ _ _ _ _ => true
  | .methodLinkNest _ _ _ _ => true
  | .castable _ _ => true
  | .declares _ => true
  | .privateMethod _ => true
  | .interfaceMethod a b _ _ => a == "ExactChains$Cell" && b == "ExactChains$Cell"
  | _ => false
theorem nwk_decl {x : MethodName} {s U : State} (hW : s.WarmedH U.vm) (h : va_Nw (.declares x) s) : va_Nw (.declares x) U := va_tabs rfl (rfl : (s.setVm U.vm).vm = U.vm) (by rw [Cond.declares_setVm hW.alike]; exact h)
theorem nwk_face {n d : String} {s U : State} (hW : s.WarmedH U.vm) (h : va_Nw (.interfaceMethod "ExactChains$Cell" "ExactChains$Cell" n d) s) : va_Nw (.interfaceMethod "ExactChains$Cell" "ExactChains$Cell" n d) U := by
  obtain ⟨c, k, m, -, -, -, -, hn⟩ := Cond.interfaceMethod_spec h
  refine va_tabs (A := #[]) rfl (rfl : (s.setVm U.vm).vm = U.vm) ?_
  have e := Cond.interfaceMethod_setVm (args := #[]) hW.alike hn ⟨by decide, by decide⟩
  exact e.trans h
theorem nwk_priv {x : MethodName} {s U : State} (hW : s.WarmedH U.vm) (h : va_Nw (.privateMethod x) s) : va_Nw (.privateMethod x) U := va_tabs rfl (rfl : (s.setVm U.vm).vm = U.vm) (by rw [Cond.privateMethod_setVm hW.alike]; exact h)
theorem nwk_warm {w : Cond} (hk : nwk w = true) {s U : State} (hW : s.WarmedH U.vm) (h : va_Nw w s) : va_Nw w U := by
  cases w
  case interfaceMethod a b n d =>
    simp only [nwk, Bool.and_eq_true, beq_iff_eq] at hk
    obtain ⟨rfl, rfl⟩ := hk
    exact nwk_face hW h
  case fieldLinkNest => exact va_Nw.warmF hW h
  case methodLinkNest => exact va_Nw.warmM hW h
  case castable => exact va_Nw.warmC hW h
  case declares => exact nwk_decl hW h
  case privateMethod => exact nwk_priv hW h
  all_goals exact Bool.noConfusion hk
def fwl : List (String × MethodName × MethodName) := [("java/util/ArrayDeque", ⟨"java/util/Collection", "toArray", "()[Ljava/lang/Object;"⟩, ⟨"java/util/ArrayDeque", "toArray", "()[Ljava/lang/Object;"⟩), ("java/util/ArrayList", ⟨"java/util/Collection", "toArray", "()[Ljava/lang/Object;"⟩, ⟨"java/util/ArrayList", "toArray", "()[Ljava/lang/Object;"⟩), ("java/util/ArrayList", ⟨"java/util/List", "addAll", "(Ljava/util/Collection;)Z"⟩, ⟨"java/util/ArrayList", "addAll", "(Ljava/util/Collection;)Z"⟩), ("java/util/ArrayList", ⟨"java/util/List", "clear", "()V"⟩, ⟨"java/util/ArrayList", "clear", "()V"⟩), ("java/util/ArrayList", ⟨"java/util/List", "isEmpty", "()Z"⟩, ⟨"java/util/ArrayList", "isEmpty", "()Z"⟩), ("java/util/ArrayList", ⟨"java/util/List", "size", "()I"⟩, ⟨"java/util/ArrayList", "size", "()I"⟩), ("java/util/ArrayList", ⟨"java/util/List", "add", "(Ljava/lang/Object;)Z"⟩, ⟨"java/util/ArrayList", "add", "(Ljava/lang/Object;)Z"⟩), ("java/util/ArrayList", ⟨"java/util/List", "get", "(I)Ljava/lang/Object;"⟩, ⟨"java/util/ArrayList", "get", "(I)Ljava/lang/Object;"⟩), ("java/util/ArrayList", ⟨"java/util/List", "set", "(ILjava/lang/Object;)Ljava/lang/Object;"⟩, ⟨"java/util/ArrayList", "set", "(ILjava/lang/Object;)Ljava/lang/Object;"⟩)]
theorem fwl_mh : ∀ t ∈ fwl, t.2.1.cls ≠ "java/lang/invoke/MethodHandle" ∧ t.2.1.cls ≠ "java/lang/invoke/VarHandle" := by decide +kernel
def va_AI (U : State) : Prop := (Cond.arrayOver (.array .int)).before #[] U = true
theorem va_AI.moved {u U : State} (hvm : u.vm.Alike U.vm) (h : va_AI u) : va_AI U := by
  unfold va_AI Cond.before at h
  simp only [Cond.holds, Cond.value, beq_iff_eq] at h
  cases hc : u.vm.findClass (FieldType.array .int).toString with
  | none => simp [hc] at h
  | some comp =>
    simp only [hc, Option.bind_some, Option.bind_eq_some_iff, Option.map_eq_some_iff] at h
    obtain ⟨c, hi0, k, hk, hb⟩ := h
    obtain ⟨k', hk', he⟩ := hvm.2.2 _ _ hk
    have hi : (U.vm.classes.findIdx? fun (x : Class) => match x.kind with | .array component _ => component == comp | _ => false) = some c := by
      have e1 := va_idx_bare U.vm comp
      have e2 := va_idx_bare u.vm comp
      have e3 : U.vm.bare = u.vm.bare := by first | exact hvm.bare_eq | exact hvm.bare_eq.symm
      rw [e3] at e1
      exact e1.symm.trans (e2.trans hi0)
    unfold va_AI Cond.before
    simp only [Cond.holds, Cond.value, beq_iff_eq]
    rw [hvm.findClass, hc, Option.bind_some]
    refine Option.bind_eq_some_iff.mpr ⟨c, hi, Option.map_eq_some_iff.mpr ⟨k', hk', ?_⟩⟩
    rw [he]
    rw [hvm.findClass]
    exact hb
def hRow (D : HD) (U : State) : Prop := ∃ k4 : Class, U.vm.classes[D.2 4]? = some k4 ∧ k4.kind = .array (D.2 0) (.array .int)
theorem hRow.moved {D : HD} {u U : State} (hvm : u.vm.Alike U.vm) (h : hRow D u) : hRow D U := by
  obtain ⟨k4, h1, h2⟩ := h
  obtain ⟨k', hk', he⟩ := hvm.2.2 _ _ h1
  exact ⟨k', hk', by rw [he]; exact h2⟩
def ncl : List (String × String) := [("java/lang/IllegalArgumentException", "java/lang/IndexOutOfBoundsException"), ("java/lang/IllegalStateException", "java/lang/IndexOutOfBoundsException"), ("java/util/NoSuchElementException", "java/lang/IndexOutOfBoundsException"), ("java/util/NoSuchElementException", "java/lang/IllegalStateException")]
/-- a site that makes objects of a lambda's class: its word rides on the tables alone -/
theorem lam_ride {s t : State} (hW : s.WarmedH t.vm) {x : MethodName} {pc index : Nat} {σ : Lambda.Shape} {c : ClassId} (h : s.lambdaAt? x pc index σ = some (c, none)) : t.lambdaAt? x pc index σ = some (c, none) := by
  obtain ⟨m, kc, cf, i0, p0, l, hm, hk, hcf, hsh, hin, hfind, hmade, hcall, hl⟩ := State.lambdaAt?_spec h
  have hcall' : t.lambdaCallable σ c = true := by
    have hA := hW.alike
    simp only [State.lambdaCallable, hA.findClass, hA.assignable, hA.superclasses, hA.declaredIn] at hcall ⊢
    exact hcall
  obtain ⟨kc', hk', he⟩ := hW.alike.2.2 _ _ hk
  have hm' : t.methodNamed? x = some m := by
    have := State.methodNamed?_setVm (s := s) hW.alike x
    rw [hm] at this
    exact this
  have hcf' : kc'.cf = some cf := by rw [he]; exact hcf
  have hin' : (m.idx, pc, index, σ) ∈ Lambda.sitesOf kc' := by rw [he]; exact hin
  have hfind' : (kc'.callSites.find? fun y => y.1 == m.idx && y.2.1 == pc) = some (i0, p0, l) := by rw [he]; exact hfind
  have hmade' := Lambda.isMade_warmer hW hmade
  obtain ⟨m2, k2, hm2, hk2, hjdk, howes⟩ := State.lambdaAt?_road h
  cases hm.symm.trans hm2
  cases hk.symm.trans hk2
  have hjdk' : jdkName kc'.name = false := by rw [he]; exact hjdk
  have howes' : (t.vm.findClass σ.iface).bind (Lambda.owesInit t.vm) = none := by
    rw [hW.alike.findClass]
    cases hfi : s.vm.findClass σ.iface with
    | none => rfl
    | some i => rw [hfi] at howes; simpa [Lambda.owesInit_alike hW.alike] using howes
  have hany : ((Lambda.sitesOf kc').any fun y => decide (y = (m.idx, pc, index, σ))) = true := by simpa using hin'
  rcases hl with ⟨a, cell, -, hone, -⟩ | ⟨rfl, -, hcap⟩
  · cases hone
  · simp [State.lambdaAt?, guard, hjdk', howes', hm', hk', hcf', hsh, hany, hfind', hcap, hmade', hcall']
def lmS (k : Nat) : Lambda.Shape := match k with
  | 0 => { iface := "ExactChains$Cell", name := "at", sam := { parameters := [.int, .int], returnType := some .int }, captured := [.object "ExactChains$Process", .int, .int, .int], kind := 5, implClass := "ExactChains$Process", implName := "lambda$sets$0", implDesc := { parameters := [.int, .int, .int, .int, .int], returnType := some .int }, implItf := false, inst := { parameters := [.int, .int], returnType := some .int } }
  | 1 => { iface := "ExactChains$Cell", name := "at", sam := { parameters := [.int, .int], returnType := some .int }, captured := [.object "ExactChains$Process"], kind := 5, implClass := "ExactChains$Process", implName := "lambda$projected$1", implDesc := { parameters := [.int, .int], returnType := some .int }, implItf := false, inst := { parameters := [.int, .int], returnType := some .int } }
  | 2 => { iface := "ExactChains$Cell", name := "at", sam := { parameters := [.int, .int], returnType := some .int }, captured := [.object "ExactChains$Process", .int], kind := 5, implClass := "ExactChains$Process", implName := "lambda$lessUnit$2", implDesc := { parameters := [.int, .int, .int], returnType := some .int }, implItf := false, inst := { parameters := [.int, .int], returnType := some .int } }
  | _ => { iface := "ExactChains$Cell", name := "at", sam := { parameters := [.int, .int], returnType := some .int }, captured := [.object "ExactChains$Process", .int], kind := 5, implClass := "ExactChains$Process", implName := "lambda$solution$3", implDesc := { parameters := [.int, .int, .int], returnType := some .int }, implItf := false, inst := { parameters := [.int, .int], returnType := some .int } }
def lmX (k : Nat) : MethodName := match k with
  | 0 => ⟨"ExactChains$Process", "sets", "(III)V"⟩
  | 1 => ⟨"ExactChains$Process", "projected", "(I)[[I"⟩
  | 2 => ⟨"ExactChains$Process", "lessUnit", "(I)LExactChains$Steps;"⟩
  | _ => ⟨"ExactChains$Process", "solution", "()LExactChains$Vector;"⟩
def lmP (k : Nat) : Nat := match k with
  | 0 => 17
  | 1 => 7
  | 2 => 22
  | _ => 27
def lmI (k : Nat) : Nat := match k with
  | 0 => 83
  | 1 => 197
  | 2 => 234
  | _ => 244
/-- the constants that the component reads: three statics, the texts -/
def scl : List (String × Nat × String × Nat) := [("ExactChains", 329, "ocbl", 310), ("ExactChains$Reader", 158, "prime", 311), ("ExactChains$Reader", 167, "size", 312), ("ExactChains$Reader", 134, "cell", 313), ("ExactChains$Reader", 136, "start", 314), ("ExactChains$Reader", 137, "limit", 315), ("ExactChains$Reader", 139, "restarts", 316), ("ExactChains$Reader", 141, "full", 317)]
def hCst (D : HD) (A : Nat → Prop) (U : State) (H : Heap) : Prop := va_Z "jdk/internal/util/Preconditions" "SIOOBE_FORMATTER" "Ljava/util/function/BiFunction;" (.ref (D.2 300)) A U H ∧ va_Z "java/lang/Integer" "DigitOnes" "[B" (.ref (D.2 301)) A U H ∧ va_Z "java/lang/Integer" "DigitTens" "[B" (.ref (D.2 302)) A U H ∧ (∀ t ∈ scl, vk_R t.1 t.2.1 t.2.2.1 (D.2 t.2.2.2) U) ∧ va_Z "java/lang/Throwable" "UNASSIGNED_STACK" "[Ljava/lang/StackTraceElement;" (.ref (D.2 303)) A U H ∧ va_Z "java/lang/Throwable" "SUPPRESSED_SENTINEL" "Ljava/util/List;" (.ref (D.2 304)) A U H
theorem hCst.moved {D : HD} {A : Nat → Prop} {s U : State} {H H1 : Heap} (h : hCst D A s H) (hW : s.WarmedH U.vm) (hq : ∀ a : Nat, a < H.size → ¬ A a → H1[a]? = H[a]?) : hCst D A U H1 :=
  ⟨(h.1.kept hq).moved hW.alike, (h.2.1.kept hq).moved hW.alike, (h.2.2.1.kept hq).moved hW.alike, fun t ht => (h.2.2.2.1 t ht).warm hW, (h.2.2.2.2.1.kept hq).moved hW.alike, (h.2.2.2.2.2.kept hq).moved hW.alike⟩
/-- what holds of the tables and statics all through -/
def hG (D : HD) (A : Nat → Prop) (U : State) (H : Heap) : Prop := va_K D.1 vwCl (tyL D.2) U ∧ (∀ w ∈ lw_tbl, nwk w = true → va_Nw w U) ∧ (∀ t ∈ fwl, va_Fw t.1 t.2.1 t.2.2 U) ∧ (va_AO "java/lang/Object" U ∧ va_AO "ExactChains$Process" U) ∧ (va_Z "java/lang/String" "COMPACT_STRINGS" "Z" (.int 1) A U H ∧ hCst D A U H) ∧ hRow D U ∧ va_AI U ∧ va_Mi "[Ljava/lang/Object;" (D.2 200) U ∧ va_Dc U ∧ (vx_Zq Bundle.tN "UNASSIGNED_STACK" Bundle.steD A U H ∧ vx_Zq Bundle.tN "SUPPRESSED_SENTINEL" Bundle.listD A U H) ∧ (∀ t ∈ ncl, va_Nc t.1 t.2 U) ∧ ∀ k, k < 4 → U.lambdaAt? (lmX k) (lmP k) (lmI k) (lmS k) = some (D.2 (100 + k), none)
section
variable {D : HD} {A : Nat → Prop} {U : State} {H : Heap}
theorem hG.K (h : hG D A U H) : va_K D.1 vwCl (tyL D.2) U := h.1
theorem hG.nw (h : hG D A U H) {w : Cond} (hw : w ∈ lw_tbl) (hk : nwk w = true) : va_Nw w U := h.2.1 w hw hk
theorem hG.fw (h : hG D A U H) : ∀ t ∈ fwl, va_Fw t.1 t.2.1 t.2.2 U := h.2.2.1
theorem hG.ao (h : hG D A U H) : va_AO "java/lang/Object" U := h.2.2.2.1.1
theorem hG.ap (h : hG D A U H) : va_AO "ExactChains$Process" U := h.2.2.2.1.2
theorem hG.cs (h : hG D A U H) : va_Z "java/lang/String" "COMPACT_STRINGS" "Z" (.int 1) A U H := h.2.2.2.2.1.1
theorem hG.kst (h : hG D A U H) : hCst D A U H := h.2.2.2.2.1.2
theorem hG.row (h : hG D A U H) : hRow D U := h.2.2.2.2.2.1
theorem hG.ai (h : hG D A U H) : va_AI U := h.2.2.2.2.2.2.1
theorem hG.mi (h : hG D A U H) : va_Mi "[Ljava/lang/Object;" (D.2 200) U := h.2.2.2.2.2.2.2.1
theorem hG.dc (h : hG D A U H) : va_Dc U := h.2.2.2.2.2.2.2.2.1
theorem hG.un (h : hG D A U H) : vx_Zq Bundle.tN "UNASSIGNED_STACK" Bundle.steD A U H := h.2.2.2.2.2.2.2.2.2.1.1
theorem hG.su (h : hG D A U H) : vx_Zq Bundle.tN "SUPPRESSED_SENTINEL" Bundle.listD A U H := h.2.2.2.2.2.2.2.2.2.1.2
theorem hG.nc (h : hG D A U H) : ∀ t ∈ ncl, va_Nc t.1 t.2 U := h.2.2.2.2.2.2.2.2.2.2.1
theorem hG.lam (h : hG D A U H) : ∀ k, k < 4 → U.lambdaAt? (lmX k) (lmP k) (lmI k) (lmS k) = some (D.2 (100 + k), none) := h.2.2.2.2.2.2.2.2.2.2.2
end
theorem hG.moved {D : HD} {A : Nat → Prop} {s U : State} {H H1 : Heap} (h : hG D A s H) (hW : s.WarmedH U.vm) (hq : ∀ a : Nat, a < H.size → ¬ A a → H1[a]? = H[a]?) : hG D A U H1 :=
  ⟨va_K.moved hW.alike h.K, fun w hw hk => nwk_warm hk hW (h.nw hw hk), fun t ht => va_Fw.moved (fwl_mh t ht) hW.alike (h.fw t ht), ⟨va_AO.moved hW.alike h.ao, va_AO.moved hW.alike h.ap⟩, ⟨(h.cs.kept hq).moved hW.alike, h.kst.moved hW hq⟩, h.row.moved hW.alike, h.ai.moved hW.alike, va_Mi.moved hW.alike h.mi, va_Dc.moved hW.alike h.dc, ⟨(h.un.kept hq).moved hW.alike, (h.su.kept hq).moved hW.alike⟩, fun t ht => va_Nc.moved hW.alike (h.nc t ht), fun k hk => lam_ride hW (h.lam k hk)⟩
def hW (D : HD) (A : Nat → Prop) (h : Hp) (U : State) : Prop := hR D A h U.heap ∧ hG D A U U.heap
