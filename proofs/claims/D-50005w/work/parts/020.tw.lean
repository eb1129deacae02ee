/-! the classes of the whole claim, in one list; the reference's world: one object, its arrays -/
abbrev vwCl : List vw_C := [(RX5, TX5, 28), (RX1, TX1, 7), (RX2, TX2, 11), (RX3, TX3, 2), (RX4, TX4, 1), (RX6, TX6, 5), (RX7, TX7, 8), (RX8, TX8, 3), (RX9, TX9, 3), (RX10, TX10, 4), (RJ2, TJ2, 3), (RJ17, TJ17, 3), (RJ8, TJ8, 4), (RJ9, TJ9, 4), (RJ6, TJ6, 6), (RJ18, TJ18, 6), (RJ20, TJ20, 6), (RJ26, TJ26, 6)]
abbrev Tw : Type := (Nat → Int32) × (Nat → Nat → Int32)
def tw_sf (σ : Tw) (k : Nat) (v : Int32) : Tw := (fun j => if j = k then v else σ.1 j, σ.2)
def tw_sa (σ : Tw) (k i : Nat) (v : Int32) : Tw := (σ.1, fun j => if j = k then upd (σ.2 k) i v else σ.2 j)
def tw_fs (ad : Nat → Nat) (σ : Tw) : List Value := [.ref (ad 0), .ref (ad 1), .ref (ad 2), .ref (ad 3), .ref (ad 4), .int (σ.1 5), .int (σ.1 6), .ref (ad 7), .int (σ.1 8), .int (σ.1 9), .int (σ.1 10), .int (σ.1 11), .int (σ.1 12), .int (σ.1 13), .int (σ.1 14), .int (σ.1 15), .int (σ.1 16), .ref (ad 17), .ref (ad 18), .ref (ad 19), .int (σ.1 20), .ref (ad 21), .ref (ad 22), .ref (ad 23), .ref (ad 24), .int (σ.1 25), .ref (ad 26), .int (σ.1 27)]
def tw_ws (m0 : Nat) (ad : Nat → Nat) (cI cZ : ClassId) (σ : Tw) : va_W := [(m0, .inr (0, tw_fs ad σ)), (ad 0, .inl (cI, 162, .inl (σ.2 0))), (ad 1, .inl (cI, 162, .inl (σ.2 1))), (ad 2, .inl (cI, 1296, .inl (σ.2 2))), (ad 3, .inl (cI, 324, .inl (σ.2 3))), (ad 4, .inl (cZ, 2, .inl (σ.2 4))), (ad 7, .inl (cI, 800, .inl (σ.2 7))), (ad 17, .inl (cI, 8, .inl (σ.2 17))), (ad 18, .inl (cI, 8, .inl (σ.2 18))), (ad 19, .inl (cI, 8, .inl (σ.2 19))), (ad 21, .inl (cI, 9, .inl (σ.2 21))), (ad 22, .inl (cI, 9, .inl (σ.2 22))), (ad 23, .inl (cI, 9, .inl (σ.2 23))), (ad 24, .inl (cI, 72, .inl (σ.2 24))), (ad 26, .inl (cI, 40, .inl (σ.2 26)))]
def tw_0 : Tw := (fun _ => 0, fun _ _ => 0)
theorem tw_g {m0 : Nat} {ad : Nat → Nat} {cI cZ : ClassId} {σ : Tw} : (tw_ws m0 ad cI cZ σ)[0]? = some (m0, .inr (0, tw_fs ad σ)) := rfl
theorem tw_e0 {m0 : Nat} {ad : Nat → Nat} {cI cZ : ClassId} {σ : Tw} : (tw_ws m0 ad cI cZ σ)[1]? = some (ad 0, .inl (cI, 162, .inl (σ.2 0))) := rfl
theorem tw_s0 {m0 : Nat} {ad : Nat → Nat} {cI cZ : ClassId} {σ : Tw} {i : Nat} {v : Int32} : (tw_ws m0 ad cI cZ σ).set 1 (ad 0, .inl (cI, 162, .inl (upd (σ.2 0) i v))) = tw_ws m0 ad cI cZ (tw_sa σ 0 i v) := rfl
theorem tw_e1 {m0 : Nat} {ad : Nat → Nat} {cI cZ : ClassId} {σ : Tw} : (tw_ws m0 ad cI cZ σ)[2]? = some (ad 1, .inl (cI, 162, .inl (σ.2 1))) := rfl
theorem tw_s1 {m0 : Nat} {ad : Nat → Nat} {cI cZ : ClassId} {σ : Tw} {i : Nat} {v : Int32} : (tw_ws m0 ad cI cZ σ).set 2 (ad 1, .inl (cI, 162, .inl (upd (σ.2 1) i v))) = tw_ws m0 ad cI cZ (tw_sa σ 1 i v) := rfl
theorem tw_e2 {m0 : Nat} {ad : Nat → Nat} {cI cZ : ClassId} {σ : Tw} : (tw_ws m0 ad cI cZ σ)[3]? = some (ad 2, .inl (cI, 1296, .inl (σ.2 2))) := rfl
theorem tw_s2 {m0 : Nat} {ad : Nat → Nat} {cI cZ : ClassId} {σ : Tw} {i : Nat} {v : Int32} : (tw_ws m0 ad cI cZ σ).set 3 (ad 2, .inl (cI, 1296, .inl (upd (σ.2 2) i v))) = tw_ws m0 ad cI cZ (tw_sa σ 2 i v) := rfl
theorem tw_e3 {m0 : Nat} {ad : Nat → Nat} {cI cZ : ClassId} {σ : Tw} : (tw_ws m0 ad cI cZ σ)[4]? = some (ad 3, .inl (cI, 324, .inl (σ.2 3))) := rfl
theorem tw_s3 {m0 : Nat} {ad : Nat → Nat} {cI cZ : ClassId} {σ : Tw} {i : Nat} {v : Int32} : (tw_ws m0 ad cI cZ σ).set 4 (ad 3, .inl (cI, 324, .inl (upd (σ.2 3) i v))) = tw_ws m0 ad cI cZ (tw_sa σ 3 i v) := rfl
theorem tw_e4 {m0 : Nat} {ad : Nat → Nat} {cI cZ : ClassId} {σ : Tw} : (tw_ws m0 ad cI cZ σ)[5]? = some (ad 4, .inl (cZ, 2, .inl (σ.2 4))) := rfl
theorem tw_s4 {m0 : Nat} {ad : Nat → Nat} {cI cZ : ClassId} {σ : Tw} {i : Nat} {v : Int32} : (tw_ws m0 ad cI cZ σ).set 5 (ad 4, .inl (cZ, 2, .inl (upd (σ.2 4) i v))) = tw_ws m0 ad cI cZ (tw_sa σ 4 i v) := rfl
theorem tw_e7 {m0 : Nat} {ad : Nat → Nat} {cI cZ : ClassId} {σ : Tw} : (tw_ws m0 ad cI cZ σ)[6]? = some (ad 7, .inl (cI, 800, .inl (σ.2 7))) := rfl
theorem tw_s7 {m0 : Nat} {ad : Nat → Nat} {cI cZ : ClassId} {σ : Tw} {i : Nat} {v : Int32} : (tw_ws m0 ad cI cZ σ).set 6 (ad 7, .inl (cI, 800, .inl (upd (σ.2 7) i v))) = tw_ws m0 ad cI cZ (tw_sa σ 7 i v) := rfl
theorem tw_e17 {m0 : Nat} {ad : Nat → Nat} {cI cZ : ClassId} {σ : Tw} : (tw_ws m0 ad cI cZ σ)[7]? = some (ad 17, .inl (cI, 8, .inl (σ.2 17))) := rfl
theorem tw_s17 {m0 : Nat} {ad : Nat → Nat} {cI cZ : ClassId} {σ : Tw} {i : Nat} {v : Int32} : (tw_ws m0 ad cI cZ σ).set 7 (ad 17, .inl (cI, 8, .inl (upd (σ.2 17) i v))) = tw_ws m0 ad cI cZ (tw_sa σ 17 i v) := rfl
theorem tw_e18 {m0 : Nat} {ad : Nat → Nat} {cI cZ : ClassId} {σ : Tw} : (tw_ws m0 ad cI cZ σ)[8]? = some (ad 18, .inl (cI, 8, .inl (σ.2 18))) := rfl
theorem tw_s18 {m0 : Nat} {ad : Nat → Nat} {cI cZ : ClassId} {σ : Tw} {i : Nat} {v : Int32} : (tw_ws m0 ad cI cZ σ).set 8 (ad 18, .inl (cI, 8, .inl (upd (σ.2 18) i v))) = tw_ws m0 ad cI cZ (tw_sa σ 18 i v) := rfl
theorem tw_e19 {m0 : Nat} {ad : Nat → Nat} {cI cZ : ClassId} {σ : Tw} : (tw_ws m0 ad cI cZ σ)[9]? = some (ad 19, .inl (cI, 8, .inl (σ.2 19))) := rfl
theorem tw_s19 {m0 : Nat} {ad : Nat → Nat} {cI cZ : ClassId} {σ : Tw} {i : Nat} {v : Int32} : (tw_ws m0 ad cI cZ σ).set 9 (ad 19, .inl (cI, 8, .inl (upd (σ.2 19) i v))) = tw_ws m0 ad cI cZ (tw_sa σ 19 i v) := rfl
theorem tw_e21 {m0 : Nat} {ad : Nat → Nat} {cI cZ : ClassId} {σ : Tw} : (tw_ws m0 ad cI cZ σ)[10]? = some (ad 21, .inl (cI, 9, .inl (σ.2 21))) := rfl
theorem tw_s21 {m0 : Nat} {ad : Nat → Nat} {cI cZ : ClassId} {σ : Tw} {i : Nat} {v : Int32} : (tw_ws m0 ad cI cZ σ).set 10 (ad 21, .inl (cI, 9, .inl (upd (σ.2 21) i v))) = tw_ws m0 ad cI cZ (tw_sa σ 21 i v) := rfl
theorem tw_e22 {m0 : Nat} {ad : Nat → Nat} {cI cZ : ClassId} {σ : Tw} : (tw_ws m0 ad cI cZ σ)[11]? = some (ad 22, .inl (cI, 9, .inl (σ.2 22))) := rfl
theorem tw_s22 {m0 : Nat} {ad : Nat → Nat} {cI cZ : ClassId} {σ : Tw} {i : Nat} {v : Int32} : (tw_ws m0 ad cI cZ σ).set 11 (ad 22, .inl (cI, 9, .inl (upd (σ.2 22) i v))) = tw_ws m0 ad cI cZ (tw_sa σ 22 i v) := rfl
theorem tw_e23 {m0 : Nat} {ad : Nat → Nat} {cI cZ : ClassId} {σ : Tw} : (tw_ws m0 ad cI cZ σ)[12]? = some (ad 23, .inl (cI, 9, .inl (σ.2 23))) := rfl
theorem tw_s23 {m0 : Nat} {ad : Nat → Nat} {cI cZ : ClassId} {σ : Tw} {i : Nat} {v : Int32} : (tw_ws m0 ad cI cZ σ).set 12 (ad 23, .inl (cI, 9, .inl (upd (σ.2 23) i v))) = tw_ws m0 ad cI cZ (tw_sa σ 23 i v) := rfl
theorem tw_e24 {m0 : Nat} {ad : Nat → Nat} {cI cZ : ClassId} {σ : Tw} : (tw_ws m0 ad cI cZ σ)[13]? = some (ad 24, .inl (cI, 72, .inl (σ.2 24))) := rfl
theorem tw_s24 {m0 : Nat} {ad : Nat → Nat} {cI cZ : ClassId} {σ : Tw} {i : Nat} {v : Int32} : (tw_ws m0 ad cI cZ σ).set 13 (ad 24, .inl (cI, 72, .inl (upd (σ.2 24) i v))) = tw_ws m0 ad cI cZ (tw_sa σ 24 i v) := rfl
theorem tw_e26 {m0 : Nat} {ad : Nat → Nat} {cI cZ : ClassId} {σ : Tw} : (tw_ws m0 ad cI cZ σ)[14]? = some (ad 26, .inl (cI, 40, .inl (σ.2 26))) := rfl
theorem tw_s26 {m0 : Nat} {ad : Nat → Nat} {cI cZ : ClassId} {σ : Tw} {i : Nat} {v : Int32} : (tw_ws m0 ad cI cZ σ).set 14 (ad 26, .inl (cI, 40, .inl (upd (σ.2 26) i v))) = tw_ws m0 ad cI cZ (tw_sa σ 26 i v) := rfl
theorem tw_p5 {m0 : Nat} {ad : Nat → Nat} {cI cZ : ClassId} {σ : Tw} {v : Int32} : (tw_ws m0 ad cI cZ σ).set 0 (m0, .inr (0, (tw_fs ad σ).set 5 (.int v))) = tw_ws m0 ad cI cZ (tw_sf σ 5 v) := rfl
theorem tw_p6 {m0 : Nat} {ad : Nat → Nat} {cI cZ : ClassId} {σ : Tw} {v : Int32} : (tw_ws m0 ad cI cZ σ).set 0 (m0, .inr (0, (tw_fs ad σ).set 6 (.int v))) = tw_ws m0 ad cI cZ (tw_sf σ 6 v) := rfl
theorem tw_p8 {m0 : Nat} {ad : Nat → Nat} {cI cZ : ClassId} {σ : Tw} {v : Int32} : (tw_ws m0 ad cI cZ σ).set 0 (m0, .inr (0, (tw_fs ad σ).set 8 (.int v))) = tw_ws m0 ad cI cZ (tw_sf σ 8 v) := rfl
theorem tw_p9 {m0 : Nat} {ad : Nat → Nat} {cI cZ : ClassId} {σ : Tw} {v : Int32} : (tw_ws m0 ad cI cZ σ).set 0 (m0, .inr (0, (tw_fs ad σ).set 9 (.int v))) = tw_ws m0 ad cI cZ (tw_sf σ 9 v) := rfl
theorem tw_p10 {m0 : Nat} {ad : Nat → Nat} {cI cZ : ClassId} {σ : Tw} {v : Int32} : (tw_ws m0 ad cI cZ σ).set 0 (m0, .inr (0, (tw_fs ad σ).set 10 (.int v))) = tw_ws m0 ad cI cZ (tw_sf σ 10 v) := rfl
theorem tw_p11 {m0 : Nat} {ad : Nat → Nat} {cI cZ : ClassId} {σ : Tw} {v : Int32} : (tw_ws m0 ad cI cZ σ).set 0 (m0, .inr (0, (tw_fs ad σ).set 11 (.int v))) = tw_ws m0 ad cI cZ (tw_sf σ 11 v) := rfl
theorem tw_p12 {m0 : Nat} {ad : Nat → Nat} {cI cZ : ClassId} {σ : Tw} {v : Int32} : (tw_ws m0 ad cI cZ σ).set 0 (m0, .inr (0, (tw_fs ad σ).set 12 (.int v))) = tw_ws m0 ad cI cZ (tw_sf σ 12 v) := rfl
theorem tw_p13 {m0 : Nat} {ad : Nat → Nat} {cI cZ : ClassId} {σ : Tw} {v : Int32} : (tw_ws m0 ad cI cZ σ).set 0 (m0, .inr (0, (tw_fs ad σ).set 13 (.int v))) = tw_ws m0 ad cI cZ (tw_sf σ 13 v) := rfl
theorem tw_p14 {m0 : Nat} {ad : Nat → Nat} {cI cZ : ClassId} {σ : Tw} {v : Int32} : (tw_ws m0 ad cI cZ σ).set 0 (m0, .inr (0, (tw_fs ad σ).set 14 (.int v))) = tw_ws m0 ad cI cZ (tw_sf σ 14 v) := rfl
theorem tw_p15 {m0 : Nat} {ad : Nat → Nat} {cI cZ : ClassId} {σ : Tw} {v : Int32} : (tw_ws m0 ad cI cZ σ).set 0 (m0, .inr (0, (tw_fs ad σ).set 15 (.int v))) = tw_ws m0 ad cI cZ (tw_sf σ 15 v) := rfl
theorem tw_p16 {m0 : Nat} {ad : Nat → Nat} {cI cZ : ClassId} {σ : Tw} {v : Int32} : (tw_ws m0 ad cI cZ σ).set 0 (m0, .inr (0, (tw_fs ad σ).set 16 (.int v))) = tw_ws m0 ad cI cZ (tw_sf σ 16 v) := rfl
theorem tw_p20 {m0 : Nat} {ad : Nat → Nat} {cI cZ : ClassId} {σ : Tw} {v : Int32} : (tw_ws m0 ad cI cZ σ).set 0 (m0, .inr (0, (tw_fs ad σ).set 20 (.int v))) = tw_ws m0 ad cI cZ (tw_sf σ 20 v) := rfl
theorem tw_p25 {m0 : Nat} {ad : Nat → Nat} {cI cZ : ClassId} {σ : Tw} {v : Int32} : (tw_ws m0 ad cI cZ σ).set 0 (m0, .inr (0, (tw_fs ad σ).set 25 (.int v))) = tw_ws m0 ad cI cZ (tw_sf σ 25 v) := rfl
theorem tw_p27 {m0 : Nat} {ad : Nat → Nat} {cI cZ : ClassId} {σ : Tw} {v : Int32} : (tw_ws m0 ad cI cZ σ).set 0 (m0, .inr (0, (tw_fs ad σ).set 27 (.int v))) = tw_ws m0 ad cI cZ (tw_sf σ 27 v) := rfl
/-- the addresses alone -/
theorem tw_fst {m0 : Nat} {ad : Nat → Nat} {cI cZ cI' cZ' : ClassId} {σ τ : Tw} : (tw_ws m0 ad cI cZ σ).map (fun q => q.1) = (tw_ws m0 ad cI' cZ' τ).map (fun q => q.1) := rfl
theorem va_fst {ws wt : va_W} (h : ws.map (fun q => q.1) = wt.map (fun q => q.1)) {k : Nat} {q : Nat × va_E} (hq : wt[k]? = some q) : ∃ e, ws[k]? = some (q.1, e) := by
  have h1 : (ws.map (fun q => q.1))[k]? = some q.1 := by rw [h, List.getElem?_map, hq]; rfl
  rw [List.getElem?_map] at h1
  cases hw : ws[k]? with
  | none => rw [hw] at h1; cases h1
  | some z => rw [hw] at h1; exact ⟨z.2, by rw [← Option.some.inj h1]⟩
theorem va_Dfst {A : Nat → Prop} {ws wt : va_W} (h : ws.map (fun q => q.1) = wt.map (fun q => q.1)) (hD : va_D A ws) : va_D A wt := by
  refine ⟨fun i j p q hp hq hpq => ?_, fun k q hq => ?_⟩
  · obtain ⟨e1, h1⟩ := va_fst h hp
    obtain ⟨e2, h2⟩ := va_fst h hq
    exact hD.1 i j _ _ h1 h2 hpq
  · obtain ⟨e1, h1⟩ := va_fst h hq
    exact hD.2 k (q.1, e1) h1
theorem tw_Dm {A : Nat → Prop} {m0 : Nat} {ad : Nat → Nat} {cI cZ : ClassId} {σ τ : Tw} (h : va_D A (tw_ws m0 ad cI cZ σ)) : va_D A (tw_ws m0 ad cI cZ τ) := va_Dfst tw_fst h
def tw_A (m0 : Nat) (ad : Nat → Nat) (sz : Nat) : Nat → Prop := va_A (tw_ws m0 ad 0 0 tw_0) sz
theorem tw_Ds {m0 : Nat} {ad : Nat → Nat} {cI cZ : ClassId} {σ : Tw} {z : Nat} (h : va_D (fun _ => True) (tw_ws m0 ad cI cZ σ)) : va_D (tw_A m0 ad z) (tw_ws m0 ad cI cZ σ) := va_Dfst (tw_fst (cI := 0) (cZ := 0) (σ := tw_0)) (va_D.self (va_Dfst tw_fst h))
theorem tw_Am {m0 : Nat} {ad : Nat → Nat} {y z : Nat} (h : y ≤ z) : ∀ q, tw_A m0 ad z q → tw_A m0 ad y q := by
  intro q hq
  rcases hq with hq | hq
  · exact Or.inl hq
  · exact Or.inr (Nat.le_trans h hq)
def tw_Pre (dC : Nat → ClassId) (dI : Nat → Nat → Nat) (cI cZ : ClassId) (m0 : Nat) (ad : Nat → Nat) (sz : Nat) (σ : Tw) (U : State) : Prop :=
  U.heap.size = sz ∧ va_P (dC, dI) vwCl (tw_ws m0 ad cI cZ σ) U.heap ∧ va_K (dC, dI) vwCl [(cI, .int), (cZ, .boolean)] U ∧ va_D (fun _ => True) (tw_ws m0 ad cI cZ σ)
def tw_B (dC : Nat → ClassId) (dI : Nat → Nat → Nat) (cI cZ : ClassId) (m0 : Nat) (ad : Nat → Nat) (σ : Tw) (t : State) : Prop :=
  va_P (dC, dI) vwCl (tw_ws m0 ad cI cZ σ) t.heap ∧ va_K (dC, dI) vwCl [(cI, .int), (cZ, .boolean)] t
theorem tw_preV {dC : Nat → ClassId} {dI : Nat → Nat → Nat} {cI cZ : ClassId} {m0 : Nat} {ad : Nat → Nat} {σ : Tw} {s : State} {H : Heap} {A : Nat → Prop} (hK : va_K (dC, dI) vwCl [(cI, .int), (cZ, .boolean)] s) (hP : va_P (dC, dI) vwCl (tw_ws m0 ad cI cZ σ) H) (hD : va_D A (tw_ws m0 ad cI cZ σ)) (As : List Value) : PreV s H RX5 m0 (va_Pc (.ref m0 :: As) (tw_Pre dC dI cI cZ m0 ad H.size σ)) As :=
  ⟨fun a U g mk q => by obtain ⟨q0, q1, qP, qK, qD⟩ := q; exact ⟨q0, q1, qP, va_K.moved (u := U) (U := U.calling g mk a) (Vm.Alike.refl U.vm) qK, qD⟩, va_recv hK hP (ci := 0) (q0 := 0) rfl tw_g, fun U hU hW => ⟨rfl, by rw [hU], by rw [hU]; exact hP, va_K.moved hW.alike hK, hD.weaken (fun _ _ _ _ => trivial)⟩⟩
theorem tw_preS {dC : Nat → ClassId} {dI : Nat → Nat → Nat} {cI cZ : ClassId} {m0 : Nat} {ad : Nat → Nat} {σ : Tw} {s : State} {H : Heap} {A : Nat → Prop} (hK : va_K (dC, dI) vwCl [(cI, .int), (cZ, .boolean)] s) (hP : va_P (dC, dI) vwCl (tw_ws m0 ad cI cZ σ) H) (hD : va_D A (tw_ws m0 ad cI cZ σ)) (As : List Value) : PreS s H (va_Pc As (tw_Pre dC dI cI cZ m0 ad H.size σ)) As :=
  ⟨fun a U g mk q => by obtain ⟨q0, q1, qP, qK, qD⟩ := q; exact ⟨q0, q1, qP, va_K.moved (u := U) (U := U.calling g mk a) (Vm.Alike.refl U.vm) qK, qD⟩, fun U hU hW => ⟨rfl, by rw [hU], by rw [hU]; exact hP, va_K.moved hW.alike hK, hD.weaken (fun _ _ _ _ => trivial)⟩⟩
theorem tw_calli {p : Program} {l : Launch} {e : Env} {R : Room} {s : State} {m : MethodId} {args : Array Value} {below : List Frame} {meth : Method} {c : Code} {H : Heap} {locs : List Loc} {cells slots : Nat} {Q : State → Prop} {pc : Nat} {ls : Array Slot} {rest st0 : List Value} {a : Array Value} {A : Nat → Prop} {H0 : Heap} {dC : Nat → ClassId} {dI : Nat → Nat → Nat} {cI cZ : ClassId} {m0 : Nat} {ad : Nat → Nat} {σ : Tw} {post : Int32 → Tw → Prop}
    (hr : va_Run p l e R s m args below meth c H locs cells slots 0 0 (F0 m pc ls st0) rest (va_Qi post (tw_B dC dI cI cZ m0 ad) (tw_A m0 ad H.size) a) (tw_A m0 ad H.size)) (hS : va_S A H0 H locs) (hD : va_D A (tw_ws m0 ad cI cZ σ)) (hAA : ∀ z, H0.size ≤ z → ∀ q, tw_A m0 ad z q → A q)
    (kk : ∀ (r : Int32) (u : Tw) (H1 : Heap) (locs1 : List Loc), post r u → va_P (dC, dI) vwCl (tw_ws m0 ad cI cZ u) H1 → va_D A (tw_ws m0 ad cI cZ u) → va_S A H0 H1 locs1 → W p l e R s m args below meth c H1 locs1 cells slots Q (F0 m (pc + 3) ls (.int r :: rest))) : W p l e R s m args below meth c H locs cells slots Q (F0 m pc ls st0) :=
  va_calli hr hS (fun q _ h => hAA _ hS.1 q h) (hAA _ hS.1) (fun r u t H1 locs1 ht hvm hw hB hz hk hS1 => kk r u H1 locs1 hw (by rw [← ht]; exact hB.1) (tw_Dm hD) hS1)
theorem tw_callf {p : Program} {l : Launch} {e : Env} {R : Room} {s : State} {m : MethodId} {args : Array Value} {below : List Frame} {meth : Method} {c : Code} {H : Heap} {locs : List Loc} {cells slots : Nat} {Q : State → Prop} {pc : Nat} {ls : Array Slot} {rest st0 : List Value} {a : Array Value} {A : Nat → Prop} {H0 : Heap} {dC : Nat → ClassId} {dI : Nat → Nat → Nat} {cI cZ : ClassId} {m0 : Nat} {ad : Nat → Nat} {σ : Tw} {post : UInt32 → Tw → Prop}
    (hr : va_Run p l e R s m args below meth c H locs cells slots 0 0 (F0 m pc ls st0) rest (va_Qf post (tw_B dC dI cI cZ m0 ad) (tw_A m0 ad H.size) a) (tw_A m0 ad H.size)) (hS : va_S A H0 H locs) (hD : va_D A (tw_ws m0 ad cI cZ σ)) (hAA : ∀ z, H0.size ≤ z → ∀ q, tw_A m0 ad z q → A q)
    (kk : ∀ (r : UInt32) (u : Tw) (H1 : Heap) (locs1 : List Loc), post r u → va_P (dC, dI) vwCl (tw_ws m0 ad cI cZ u) H1 → va_D A (tw_ws m0 ad cI cZ u) → va_S A H0 H1 locs1 → W p l e R s m args below meth c H1 locs1 cells slots Q (F0 m (pc + 3) ls (.float r :: rest))) : W p l e R s m args below meth c H locs cells slots Q (F0 m pc ls st0) :=
  va_callf hr hS (fun q _ h => hAA _ hS.1 q h) (hAA _ hS.1) (fun r u t H1 locs1 ht hvm hw hB hz hk hS1 => kk r u H1 locs1 hw (by rw [← ht]; exact hB.1) (tw_Dm hD) hS1)
theorem tw_callv {p : Program} {l : Launch} {e : Env} {R : Room} {s : State} {m : MethodId} {args : Array Value} {below : List Frame} {meth : Method} {c : Code} {H : Heap} {locs : List Loc} {cells slots : Nat} {Q : State → Prop} {pc : Nat} {ls : Array Slot} {rest st0 : List Value} {a : Array Value} {A : Nat → Prop} {H0 : Heap} {dC : Nat → ClassId} {dI : Nat → Nat → Nat} {cI cZ : ClassId} {m0 : Nat} {ad : Nat → Nat} {σ : Tw} {post : Tw → Prop}
    (hr : va_Run p l e R s m args below meth c H locs cells slots 0 0 (F0 m pc ls st0) rest (va_Qv post (tw_B dC dI cI cZ m0 ad) (tw_A m0 ad H.size) a) (tw_A m0 ad H.size)) (hS : va_S A H0 H locs) (hD : va_D A (tw_ws m0 ad cI cZ σ)) (hAA : ∀ z, H0.size ≤ z → ∀ q, tw_A m0 ad z q → A q)
    (kk : ∀ (u : Tw) (H1 : Heap) (locs1 : List Loc), post u → va_P (dC, dI) vwCl (tw_ws m0 ad cI cZ u) H1 → va_D A (tw_ws m0 ad cI cZ u) → va_S A H0 H1 locs1 → W p l e R s m args below meth c H1 locs1 cells slots Q (F0 m (pc + 3) ls (rest))) : W p l e R s m args below meth c H locs cells slots Q (F0 m pc ls st0) :=
  va_callv hr hS (fun q _ h => hAA _ hS.1 q h) (hAA _ hS.1) (fun u t H1 locs1 ht hvm hw hB hz hk hS1 => kk u H1 locs1 hw (by rw [← ht]; exact hB.1) (tw_Dm hD) hS1)
/-- the pure functions' small words -/
def gd {α : Type} (b : Bool) (x : Option α) : Option α := match b with | true => x | false => none
def bnd {α β γ : Type} (x : Option (α × β)) (f : α → β → Option γ) : Option γ := match x with | some (a, b) => f a b | none => none
def inB (i : Int32) (n : Nat) : Bool := !(decide (i < 0) || decide (n ≤ i.toNatClampNeg))
def nzB (y : Int32) : Bool := !(decide (y = 0))
def zbB (y : Int32) : Bool := decide (y = 0) || decide (y = 1)
def nanB (x : UInt32) : Bool := decide (x &&& 0x7fffffff ≤ 0x7f800000)
theorem gd_s {α : Type} {b : Bool} {x : Option α} {o : α} (h : gd b x = some o) : b = true ∧ x = some o := by
  cases b with
  | true => exact ⟨rfl, h⟩
  | false => cases h
theorem bnd_s {α β γ : Type} {x : Option (α × β)} {f : α → β → Option γ} {o : γ} (h : bnd x f = some o) : ∃ a b, x = some (a, b) ∧ f a b = some o := by
  cases x with
  | none => cases h
  | some q => exact ⟨q.1, q.2, rfl, h⟩
theorem inB_in {i : Int32} {n : Nat} (h : inB i n = true) : vp_in i n := by
  intro h2
  simp only [inB, Bool.not_eq_true', Bool.or_eq_false_iff, decide_eq_false_iff_not] at h
  exact h2.elim h.1 h.2
theorem nz_of {y : Int32} (h : nzB y = true) : ¬ y = 0 := by simpa [nzB] using h
theorem nan_of {x : UInt32} (h : nanB x = true) : vf_n32 x := by
  unfold vf_n32
  exact of_decide_eq_true h
theorem zb_of {y : Int32} (h : zbB y = true) : narrow .boolean (.int y) = .int y := by
  simp only [zbB, Bool.or_eq_true, decide_eq_true_eq] at h
  rcases h with rfl | rfl <;> rfl
theorem it_t {α : Type} {c : Prop} [Decidable c] {a b o : α} (h : c) (e : (if c then a else b) = o) : a = o := by rw [if_pos h] at e; exact e
theorem it_f {α : Type} {c : Prop} [Decidable c] {a b o : α} (h : ¬ c) (e : (if c then a else b) = o) : b = o := by rw [if_neg h] at e; exact e
theorem it_n {α : Type} {c : Prop} [Decidable c] {a b o : α} (h : ¬ ¬ c) (e : (if c then a else b) = o) : a = o := it_t (Decidable.not_not.mp h) e
