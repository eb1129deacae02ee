/-! Cell.at on a lambda's object -/
def GLam_0 (n : Nat) (h : Hp) (vs : List Value) (i j : Int32) : Option (Int32 × Hp) := match vs with
  | [.ref b, .int n1, .int n2, .int n3] => gC h b 2 (GX2_lambda_sets_0 h b n1 n2 n3 i j)
  | _ => none
theorem GLam_0_s {n : Nat} {h : Hp} {vs : List Value} {i j : Int32} {o : Int32 × Hp} (e : GLam_0 n h vs i j = some o) : ∃ b n1 n2 n3, vs = lmVals 0 b n1 n2 n3 ∧ (∃ fs, h.1 b = some (.inr (2, fs))) ∧ GX2_lambda_sets_0 h b n1 n2 n3 i j = some o := by
  unfold GLam_0 at e
  split at e
  · next b n1 n2 n3 =>
    obtain ⟨fc, ec, e⟩ := gC_s e
    exact ⟨b, n1, n2, n3, rfl, ⟨fc, ec⟩, e⟩
  · cases e
def GLam_1 (n : Nat) (h : Hp) (vs : List Value) (i j : Int32) : Option (Int32 × Hp) := match vs with
  | [.ref b] => gC h b 2 (GX2_lambda_projected_1 n h b i j)
  | _ => none
theorem GLam_1_s {n : Nat} {h : Hp} {vs : List Value} {i j : Int32} {o : Int32 × Hp} (e : GLam_1 n h vs i j = some o) : ∃ b n1 n2 n3, vs = lmVals 1 b n1 n2 n3 ∧ (∃ fs, h.1 b = some (.inr (2, fs))) ∧ GX2_lambda_projected_1 n h b i j = some o := by
  unfold GLam_1 at e
  split at e
  · next b =>
    obtain ⟨fc, ec, e⟩ := gC_s e
    exact ⟨b, 0, 0, 0, rfl, ⟨fc, ec⟩, e⟩
  · cases e
def GLam_2 (n : Nat) (h : Hp) (vs : List Value) (i j : Int32) : Option (Int32 × Hp) := match vs with
  | [.ref b, .int n1] => gC h b 2 (GX2_lambda_lessUnit_2 h b n1 i j)
  | _ => none
theorem GLam_2_s {n : Nat} {h : Hp} {vs : List Value} {i j : Int32} {o : Int32 × Hp} (e : GLam_2 n h vs i j = some o) : ∃ b n1 n2 n3, vs = lmVals 2 b n1 n2 n3 ∧ (∃ fs, h.1 b = some (.inr (2, fs))) ∧ GX2_lambda_lessUnit_2 h b n1 i j = some o := by
  unfold GLam_2 at e
  split at e
  · next b n1 =>
    obtain ⟨fc, ec, e⟩ := gC_s e
    exact ⟨b, n1, 0, 0, rfl, ⟨fc, ec⟩, e⟩
  · cases e
def GLam_3 (n : Nat) (h : Hp) (vs : List Value) (i j : Int32) : Option (Int32 × Hp) := match vs with
  | [.ref b, .int n1] => gC h b 2 (GX2_lambda_solution_3 n h b n1 i j)
  | _ => none
theorem GLam_3_s {n : Nat} {h : Hp} {vs : List Value} {i j : Int32} {o : Int32 × Hp} (e : GLam_3 n h vs i j = some o) : ∃ b n1 n2 n3, vs = lmVals 3 b n1 n2 n3 ∧ (∃ fs, h.1 b = some (.inr (2, fs))) ∧ GX2_lambda_solution_3 n h b n1 i j = some o := by
  unfold GLam_3 at e
  split at e
  · next b n1 =>
    obtain ⟨fc, ec, e⟩ := gC_s e
    exact ⟨b, n1, 0, 0, rfl, ⟨fc, ec⟩, e⟩
  · cases e
def GLam (n : Nat) (h : Hp) (a : Nat) (i j : Int32) : Option (Int32 × Hp) := match h.1 a with
  | some (.inr (ci, vs)) => if ci = 100 then GLam_0 n h vs i j else if ci = 101 then GLam_1 n h vs i j else if ci = 102 then GLam_2 n h vs i j else if ci = 103 then GLam_3 n h vs i j else none
  | _ => none
theorem GLam_s {n : Nat} {h : Hp} {a : Nat} {i j : Int32} {o : Int32 × Hp} (e : GLam n h a i j = some o) : ∃ vs, (h.1 a = some (.inr (100, vs)) ∧ GLam_0 n h vs i j = some o) ∨ (h.1 a = some (.inr (101, vs)) ∧ GLam_1 n h vs i j = some o) ∨ (h.1 a = some (.inr (102, vs)) ∧ GLam_2 n h vs i j = some o) ∨ (h.1 a = some (.inr (103, vs)) ∧ GLam_3 n h vs i j = some o) := by
  unfold GLam at e
  split at e
  · next ci vs he =>
    refine ⟨vs, ?_⟩
    by_cases h0 : ci = 100
    · subst h0; exact Or.inl ⟨he, e⟩
    rw [if_neg h0] at e
    by_cases h1 : ci = 101
    · subst h1; exact Or.inr (Or.inl ⟨he, e⟩)
    rw [if_neg h1] at e
    by_cases h2 : ci = 102
    · subst h2; exact Or.inr (Or.inr (Or.inl ⟨he, e⟩))
    rw [if_neg h2] at e
    by_cases h3 : ci = 103
    · subst h3; exact Or.inr (Or.inr (Or.inr ⟨he, e⟩))
    rw [if_neg h3] at e
    cases e
  · cases e
theorem moLam (n : Nat) (h : Hp) (a : Nat) (i j : Int32) : Mo h (GLam n h a i j) := fun o e => by
  obtain ⟨vs, ⟨-, e⟩ | ⟨-, e⟩ | ⟨-, e⟩ | ⟨-, e⟩⟩ := GLam_s e
  · obtain ⟨b, n1, n2, n3, -, -, e⟩ := GLam_0_s e
    exact moX2_lambda_sets_0 h b n1 n2 n3 i j _ e
  · obtain ⟨b, n1, n2, n3, -, -, e⟩ := GLam_1_s e
    exact moX2_lambda_projected_1 n h b i j _ e
  · obtain ⟨b, n1, n2, n3, -, -, e⟩ := GLam_2_s e
    exact moX2_lambda_lessUnit_2 h b n1 i j _ e
  · obtain ⟨b, n1, n2, n3, -, -, e⟩ := GLam_3_s e
    exact moX2_lambda_solution_3 n h b n1 i j _ e
set_option maxHeartbeats 1000000 in
theorem h_lamAt0 {l : Launch} {p : Program} {e : Env} {R : Room} {s : State} {m : MethodId} {args : Array Value} {below : List Frame} {meth : Method} {c : Code} {H : Heap} {locs : List Loc} {cells slots : Nat} {D : HD} {A : Nat → Prop} {cc : ByteArray} {nL count mc ms : Nat} {g : JFrame} {rest : List Value} {a n : Nat} {i j : Int32} {h : Hp} {out : Int32 × Hp} {vs : List Value}
    (S : CallFix p m c cc nL s args lw_all "ExactChains$Field") (hGr : hG D A s s.heap) (hr : hR D A h H) (hS : va_S A s.heap H locs) (e0 : h.1 a = some (.inr (100, vs))) (e1 : GLam_0 n h vs i j = some out) (hmc : hCc out.2 = hCc h + mc) (hms : hSl out.2 = hSl h + ms)
    (hg : g.method = m) (hsize : g.locals.size = nL) (hstack : g.stack = [Value.int i, .int j].reverse ++ .ref a :: rest) (hW9 : 2 * g.monitorRoom + (rest.map fun v => v.category).sum ≤ 8) (hdg : decode cc g.pc = .ok (.invokeinterface 45 count, 5)) (hfr : 7 ≤ R.frames) (hlo : 153 ≤ R.locals) (hf : cells + mc ≤ R.cells ∧ slots + ms ≤ R.slots) :
    va_Run5 p l e R s m args below meth c H locs cells slots mc ms g rest (va_Qi (fun r u => (r, u) = out) (hW D A) A #[]) A := by
  obtain ⟨b, n1, n2, n3, rfl, ⟨fs, ec⟩, e1⟩ := GLam_0_s e1
  have hla : H[a]? = some { cls := D.2 100, slots := (lmVals 0 b n1 n2 n3).toArray, vm := .none } := by
    have h9 := hr.2.1 a _ e0
    unfold cAt at h9
    simpa using h9
  exact lm_run0 S hGr q2551 q1151 (hGr.nw q1153 rfl) (va_Nw.use rfl (hGr.nw q1152 rfl)) q1616 q102 q1615 qs36 (mgX2_lambda_sets_0 l D A h b n1 n2 n3 i j out e1 mc ms hmc hms) rfl rfl hla (h_preV hGr hr hS ec (by decide) (q := (RX2, TX2, 11)) rfl _) (fun a st oc t hq => by obtain ⟨⟨r, u, h1, -⟩, -⟩ := hq; exact ⟨r, h1⟩) hg hsize hstack hW9 hdg (Nat.le_trans (Nat.le_of_ble_eq_true rfl) hfr) (Nat.le_trans (Nat.le_of_ble_eq_true rfl) hlo) hf
set_option maxHeartbeats 1000000 in
theorem h_lamAt1 {l : Launch} {p : Program} {e : Env} {R : Room} {s : State} {m : MethodId} {args : Array Value} {below : List Frame} {meth : Method} {c : Code} {H : Heap} {locs : List Loc} {cells slots : Nat} {D : HD} {A : Nat → Prop} {cc : ByteArray} {nL count mc ms : Nat} {g : JFrame} {rest : List Value} {a n : Nat} {i j : Int32} {h : Hp} {out : Int32 × Hp} {vs : List Value}
    (S : CallFix p m c cc nL s args lw_all "ExactChains$Field") (hGr : hG D A s s.heap) (hr : hR D A h H) (hS : va_S A s.heap H locs) (e0 : h.1 a = some (.inr (101, vs))) (e1 : GLam_1 n h vs i j = some out) (hmc : hCc out.2 = hCc h + mc) (hms : hSl out.2 = hSl h + ms)
    (hg : g.method = m) (hsize : g.locals.size = nL) (hstack : g.stack = [Value.int i, .int j].reverse ++ .ref a :: rest) (hW9 : 2 * g.monitorRoom + (rest.map fun v => v.category).sum ≤ 8) (hdg : decode cc g.pc = .ok (.invokeinterface 45 count, 5)) (hfr : 7 ≤ R.frames) (hlo : 153 ≤ R.locals) (hf : cells + mc ≤ R.cells ∧ slots + ms ≤ R.slots) :
    va_Run5 p l e R s m args below meth c H locs cells slots mc ms g rest (va_Qi (fun r u => (r, u) = out) (hW D A) A #[]) A := by
  obtain ⟨b, n1, n2, n3, rfl, ⟨fs, ec⟩, e1⟩ := GLam_1_s e1
  have hla : H[a]? = some { cls := D.2 101, slots := (lmVals 1 b n1 n2 n3).toArray, vm := .none } := by
    have h9 := hr.2.1 a _ e0
    unfold cAt at h9
    simpa using h9
  exact lm_run1 S hGr q2551 q1151 (hGr.nw q1153 rfl) (va_Nw.use rfl (hGr.nw q1152 rfl)) q1140 q102 q1139 qs23 (mgX2_lambda_projected_1 l D A h n b i j out e1 mc ms hmc hms) rfl rfl hla (h_preV hGr hr hS ec (by decide) (q := (RX2, TX2, 11)) rfl _) (fun a st oc t hq => by obtain ⟨⟨r, u, h1, -⟩, -⟩ := hq; exact ⟨r, h1⟩) hg hsize hstack hW9 hdg (Nat.le_trans (Nat.le_of_ble_eq_true rfl) hfr) (Nat.le_trans (Nat.le_of_ble_eq_true rfl) hlo) hf
set_option maxHeartbeats 1000000 in
theorem h_lamAt2 {l : Launch} {p : Program} {e : Env} {R : Room} {s : State} {m : MethodId} {args : Array Value} {below : List Frame} {meth : Method} {c : Code} {H : Heap} {locs : List Loc} {cells slots : Nat} {D : HD} {A : Nat → Prop} {cc : ByteArray} {nL count mc ms : Nat} {g : JFrame} {rest : List Value} {a n : Nat} {i j : Int32} {h : Hp} {out : Int32 × Hp} {vs : List Value}
    (S : CallFix p m c cc nL s args lw_all "ExactChains$Field") (hGr : hG D A s s.heap) (hr : hR D A h H) (hS : va_S A s.heap H locs) (e0 : h.1 a = some (.inr (102, vs))) (e1 : GLam_2 n h vs i j = some out) (hmc : hCc out.2 = hCc h + mc) (hms : hSl out.2 = hSl h + ms)
    (hg : g.method = m) (hsize : g.locals.size = nL) (hstack : g.stack = [Value.int i, .int j].reverse ++ .ref a :: rest) (hW9 : 2 * g.monitorRoom + (rest.map fun v => v.category).sum ≤ 8) (hdg : decode cc g.pc = .ok (.invokeinterface 45 count, 5)) (hfr : 7 ≤ R.frames) (hlo : 153 ≤ R.locals) (hf : cells + mc ≤ R.cells ∧ slots + ms ≤ R.slots) :
    va_Run5 p l e R s m args below meth c H locs cells slots mc ms g rest (va_Qi (fun r u => (r, u) = out) (hW D A) A #[]) A := by
  obtain ⟨b, n1, n2, n3, rfl, ⟨fs, ec⟩, e1⟩ := GLam_2_s e1
  have hla : H[a]? = some { cls := D.2 102, slots := (lmVals 2 b n1 n2 n3).toArray, vm := .none } := by
    have h9 := hr.2.1 a _ e0
    unfold cAt at h9
    simpa using h9
  exact lm_run2 S hGr q2551 q1151 (hGr.nw q1153 rfl) (va_Nw.use rfl (hGr.nw q1152 rfl)) q1182 q102 q1181 qs25 (mgX2_lambda_lessUnit_2 l D A h b n1 i j out e1 mc ms hmc hms) rfl rfl hla (h_preV hGr hr hS ec (by decide) (q := (RX2, TX2, 11)) rfl _) (fun a st oc t hq => by obtain ⟨⟨r, u, h1, -⟩, -⟩ := hq; exact ⟨r, h1⟩) hg hsize hstack hW9 hdg (Nat.le_trans (Nat.le_of_ble_eq_true rfl) hfr) (Nat.le_trans (Nat.le_of_ble_eq_true rfl) hlo) hf
set_option maxHeartbeats 1000000 in
theorem h_lamAt3 {l : Launch} {p : Program} {e : Env} {R : Room} {s : State} {m : MethodId} {args : Array Value} {below : List Frame} {meth : Method} {c : Code} {H : Heap} {locs : List Loc} {cells slots : Nat} {D : HD} {A : Nat → Prop} {cc : ByteArray} {nL count mc ms : Nat} {g : JFrame} {rest : List Value} {a n : Nat} {i j : Int32} {h : Hp} {out : Int32 × Hp} {vs : List Value}
    (S : CallFix p m c cc nL s args lw_all "ExactChains$Field") (hGr : hG D A s s.heap) (hr : hR D A h H) (hS : va_S A s.heap H locs) (e0 : h.1 a = some (.inr (103, vs))) (e1 : GLam_3 n h vs i j = some out) (hmc : hCc out.2 = hCc h + mc) (hms : hSl out.2 = hSl h + ms)
    (hg : g.method = m) (hsize : g.locals.size = nL) (hstack : g.stack = [Value.int i, .int j].reverse ++ .ref a :: rest) (hW9 : 2 * g.monitorRoom + (rest.map fun v => v.category).sum ≤ 8) (hdg : decode cc g.pc = .ok (.invokeinterface 45 count, 5)) (hfr : 7 ≤ R.frames) (hlo : 153 ≤ R.locals) (hf : cells + mc ≤ R.cells ∧ slots + ms ≤ R.slots) :
    va_Run5 p l e R s m args below meth c H locs cells slots mc ms g rest (va_Qi (fun r u => (r, u) = out) (hW D A) A #[]) A := by
  obtain ⟨b, n1, n2, n3, rfl, ⟨fs, ec⟩, e1⟩ := GLam_3_s e1
  have hla : H[a]? = some { cls := D.2 103, slots := (lmVals 3 b n1 n2 n3).toArray, vm := .none } := by
    have h9 := hr.2.1 a _ e0
    unfold cAt at h9
    simpa using h9
  exact lm_run3 S hGr q2551 q1151 (hGr.nw q1153 rfl) (va_Nw.use rfl (hGr.nw q1152 rfl)) q1904 q102 q1903 qs43 (mgX2_lambda_solution_3 l D A h n b n1 i j out e1 mc ms hmc hms) rfl rfl hla (h_preV hGr hr hS ec (by decide) (q := (RX2, TX2, 11)) rfl _) (fun a st oc t hq => by obtain ⟨⟨r, u, h1, -⟩, -⟩ := hq; exact ⟨r, h1⟩) hg hsize hstack hW9 hdg (Nat.le_trans (Nat.le_of_ble_eq_true rfl) hfr) (Nat.le_trans (Nat.le_of_ble_eq_true rfl) hlo) hf
theorem h_lamAt {l : Launch} {p : Program} {e : Env} {R : Room} {s : State} {m : MethodId} {args : Array Value} {below : List Frame} {meth : Method} {c : Code} {H : Heap} {locs : List Loc} {cells slots : Nat} {D : HD} {A : Nat → Prop} {cc : ByteArray} {nL count mc ms : Nat} {g : JFrame} {rest : List Value} {a n : Nat} {i j : Int32} {h : Hp} {out : Int32 × Hp}
    (S : CallFix p m c cc nL s args lw_all "ExactChains$Field") (hGr : hG D A s s.heap) (hr : hR D A h H) (hS : va_S A s.heap H locs) (e1 : GLam n h a i j = some out) (hmc : hCc out.2 = hCc h + mc) (hms : hSl out.2 = hSl h + ms)
    (hg : g.method = m) (hsize : g.locals.size = nL) (hstack : g.stack = [Value.int i, .int j].reverse ++ .ref a :: rest) (hW9 : 2 * g.monitorRoom + (rest.map fun v => v.category).sum ≤ 8) (hdg : decode cc g.pc = .ok (.invokeinterface 45 count, 5)) (hfr : 7 ≤ R.frames) (hlo : 153 ≤ R.locals) (hf : cells + mc ≤ R.cells ∧ slots + ms ≤ R.slots) :
    va_Run5 p l e R s m args below meth c H locs cells slots mc ms g rest (va_Qi (fun r u => (r, u) = out) (hW D A) A #[]) A := by
  obtain ⟨vs, ⟨e0, e1⟩ | ⟨e0, e1⟩ | ⟨e0, e1⟩ | ⟨e0, e1⟩⟩ := GLam_s e1
  · exact h_lamAt0 S hGr hr hS e0 e1 hmc hms hg hsize hstack hW9 hdg hfr hlo hf
  · exact h_lamAt1 S hGr hr hS e0 e1 hmc hms hg hsize hstack hW9 hdg hfr hlo hf
  · exact h_lamAt2 S hGr hr hS e0 e1 hmc hms hg hsize hstack hW9 hdg hfr hlo hf
  · exact h_lamAt3 S hGr hr hS e0 e1 hmc hms hg hsize hstack hW9 hdg hfr hlo hf
