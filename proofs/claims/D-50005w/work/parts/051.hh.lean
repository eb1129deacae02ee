/-! a method with handlers: what a callee throws is caught, or goes on -/
theorem h_athw {p : Program} {l : Launch} {e : Env} {R : Room} {s : State} {m : MethodId} {args : Array Value} {below : List Frame} {meth : Method} {c : Code} {H : Heap} {locs : List Loc} {cells slots : Nat} {pc : Nat} {ls : Array Slot} {rest : List Value} {Q : State → Prop} {cc : ByteArray} {q : Nat} (hx : p.tables.exec = Jvm.exec) (hb : c.code = cc) (hd : decode cc pc = .ok (.athrow, 1)) (hw : vx_W p l e R s m args below meth c H locs cells slots Q (F0 m pc ls rest) q) : W p l e R s m args below meth c H locs cells slots Q (F0 m pc ls (.ref q :: rest)) := by
  intro T hT X
  obtain ⟨t, st, hq⟩ := hw T hT X
  refine ⟨t, ?_, hq⟩
  have hd' : decode c.code (F0 m pc ls (.ref q :: rest)).pc = .ok (.athrow, 1) := by rw [hb]; exact hd
  jvm_step X.here [X.here.top, hx, hd', athrow.wp_sem]
  exact st
theorem h_tex {D : HD} {A : Nat → Prop} {s : State} {H : Heap} {h : Hp} {q : Nat} {fs : List Value} (hGr : hG D A s s.heap) (hr : hR D A h H) (he : h.1 q = some (.inr (6, fs))) : ∃ ce : Cell, H[q]? = some ce ∧ ce.vm = .none ∧ s.vm.findClass "ExactChains$TextError" = some ce.cls := by
  obtain ⟨ce, hce, -, hcl⟩ := va_recv (q0 := 0) hGr.K (va_P1 (hr.at_o he (by decide))) (ci := 6) rfl rfl
  obtain ⟨r9, -, cell9, g1, -, g3, -⟩ := hr.at_o he (by decide)
  cases hce.symm.trans g1
  exact ⟨ce, hce, g3, hcl⟩
/-- .. out of a method whose handlers don't cover the place -/
theorem h_xpassH {p : Program} {l : Launch} {e : Env} {R : Room} {s : State} {m : MethodId} {args : Array Value} {below : List Frame} {meth : Method} {c : Code} {H : Heap} {locs : List Loc} {cells slots : Nat} {pc : Nat} {ls : Array Slot} {rest : List Value} {A : Nat → Prop} {D : HD} {α : Type} {Qc : Array Value → State → Outcome → State → Prop} {out : (α ⊕ Xq) × Hp} {q0 : Xq} {u0 u : Hp} {E : String} {q9 : Addr} {ce : Cell} {mc0 ms0 : Nat} (hGr : hG D A s s.heap) (ht : ∀ x ∈ c.exceptionTable.toList, covers x pc = false) (hlocks : meth.locks = false) (hF : some ((.inr q0 : α ⊕ Xq), u0) = some out) (hb : cells ≤ mc0 ∧ slots ≤ ms0)
    (e1 : E = exN q0.1) (e2 : q0.1 = 4 → q0.2 = q9 ∧ u = u0) (e3 : hsm u0 u) (hr : hR D A u H) (hS : va_S A s.heap H locs) (hce : H[q9]? = some ce) (hv : ce.vm = .none) (hcl : s.vm.findClass E = some ce.cls) :
    vx_W p l e R s m args below meth c H locs cells slots (vx_MQ below Qc (xC D A out) args s mc0 ms0 A) (F0 m pc ls rest) q9 :=
  vx_out ht hlocks hce hv hcl (fun t h1 h2 => ⟨u, trivial, ⟨q0.1, q0.2, e1, by cases hF; rfl, by cases hF; exact e2, by cases hF; exact e3, h_end hGr hr hS h1 h2⟩, hS.F h1⟩) hS.2.2 hb.1 hb.2
