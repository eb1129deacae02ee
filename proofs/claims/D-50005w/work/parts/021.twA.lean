/-! the reference's methods, walked by program (tool/cw.py): F_ the pure function, mt_ the contract -/
def F_floorMod (σ : Tw) (p0 : Int32) (p1 : Int32) : Option (Int32 × Tw) := gd (nzB p1) (if 0 ≤ (p0 ^^^ p1) then some ((p0 - p0 / p1 * p1), σ) else if (p0 - p0 / p1 * p1) = 0 then some ((p0 - p0 / p1 * p1), σ) else some (((p0 - p0 / p1 * p1) + p1), σ))
set_option maxHeartbeats 4000000 in
set_option maxRecDepth 100000 in
theorem mt_floorMod (l : Launch) (dC : Nat → ClassId) (dI : Nat → Nat → Nat) (cI cZ : ClassId) (m0 : Nat) (ad : Nat → Nat) (sz : Nat) (σ : Tw)  (p0 : Int32) (p1 : Int32) (out : Int32 × Tw) (hF : F_floorMod σ p0 p1 = some out) : Met l yJ12_floorMod (ws_ yJ12_floorMod cJ12_floorMod 3 (some .int)) ({ frames := 0, cells := 0, slots := 0, locals := 0 }) (va_Pc [.int p0, .int p1] (tw_Pre dC dI cI cZ m0 ad sz σ)) (va_Qi (fun r u => (r, u) = out) (tw_B dC dI cI cZ m0 ad) (tw_A m0 ad sz)) 0 0 (tw_A m0 ad sz) := by
  refine va_MetF (cc := cJ12_floorMod) (maxL := 3) (ret := (some .int)) (by decide +kernel) rfl ?_
  intro p e s m args below meth c s₁ B hml hv
  obtain ⟨rfl, hsz, hP, hK, hD0⟩ := hv
  have hx := B.exec
  have hb := B.bytes
  have hr := B.returns
  have hts := atoms_spec (ws := (ws_ yJ12_floorMod cJ12_floorMod 3 (some .int))) B.pre
  have hts : ∀ w ∈ lw_all, w.before _ s = true := fun w h => hts w (List.mem_cons_of_mem _ h)
  have hown : s.vm.findClass RJ12 = some m.cls := findClass_of_methodNamed B.named
  have hlocks := B.notSynchronized
  subst hsz
  have hD := tw_Ds (z := s.heap.size) hD0
  have hAA := fun z (h : s.heap.size ≤ z) => tw_Am (m0 := m0) (ad := ad) h
  generalize hAe : tw_A m0 ad s.heap.size = A at hD hAA ⊢
  have hS : va_S A s.heap s.heap [] := va_S.rf
  have hP : va_P (dC, dI) vwCl (tw_ws m0 ad cI cZ σ) s.heap := hP
  have hl := lv_entry ([.int p0, .int p1]) (n := 3) (Nat.le_of_ble_eq_true rfl)
  rw [lg_entry_eq]
  generalize (lg_sl ([.int p0, .int p1]) ++ List.replicate (3 - (lg_sl ([.int p0, .int p1])).length) Slot.unset).toArray = ls at hl ⊢
  have hl : lv_has ls 3 [(0, .int p0), (1, .int p1)] := hl
  unfold F_floorMod at hF
  refine lv_iload_n hx hb dJ12_floorMod_0 rfl (lv_at hl 0 rfl) ?_
  refine lv_iload_n hx hb dJ12_floorMod_1 rfl (lv_at hl 1 rfl) ?_
  obtain ⟨g1, hF⟩ := gd_s hF
  refine lv_irem hx hb dJ12_floorMod_2 (nz_of g1) ?_
  refine lv_istore_n (lv' := [(2, .int (p0 - p0 / p1 * p1)), (0, .int p0), (1, .int p1)]) hx hb dJ12_floorMod_3 rfl hl (by decide) rfl (fun ls hl => ?_)
  refine lv_iload_n hx hb dJ12_floorMod_4 rfl (lv_at hl 1 rfl) ?_
  refine lv_iload_n hx hb dJ12_floorMod_5 rfl (lv_at hl 2 rfl) ?_
  refine lv_ixor hx hb dJ12_floorMod_6 ?_
  refine lv_if_ge (tgt := 18) hx hb dJ12_floorMod_7 (by decide) (fun c2 => ?_) (fun c2 => ?_)
  · replace hF := it_t c2 hF
    refine lv_iload_n hx hb dJ12_floorMod_18 rfl (lv_at hl 0 rfl) ?_
    exact W.iret (v := (p0 - p0 / p1 * p1)) hx hb hr (fun t ht hW => ⟨⟨(p0 - p0 / p1 * p1), σ, rfl, Option.some.inj hF, by rw [ht]; exact hP, va_K.moved hW.alike hK⟩, hS.F ht⟩) hS.2.2 dJ12_floorMod_19
  · replace hF := it_f c2 hF
    refine lv_iload_n hx hb dJ12_floorMod_10 rfl (lv_at hl 0 rfl) ?_
    refine lv_if_eq (tgt := 18) hx hb dJ12_floorMod_11 (by decide) (fun c3 => ?_) (fun c3 => ?_)
    · replace hF := it_t c3 hF
      refine lv_iload_n hx hb dJ12_floorMod_18 rfl (lv_at hl 0 rfl) ?_
      exact W.iret (v := (p0 - p0 / p1 * p1)) hx hb hr (fun t ht hW => ⟨⟨(p0 - p0 / p1 * p1), σ, rfl, Option.some.inj hF, by rw [ht]; exact hP, va_K.moved hW.alike hK⟩, hS.F ht⟩) hS.2.2 dJ12_floorMod_19
    · replace hF := it_f c3 hF
      refine lv_iload_n hx hb dJ12_floorMod_14 rfl (lv_at hl 0 rfl) ?_
      refine lv_iload_n hx hb dJ12_floorMod_15 rfl (lv_at hl 2 rfl) ?_
      refine lv_iadd hx hb dJ12_floorMod_16 ?_
      exact W.iret (v := ((p0 - p0 / p1 * p1) + p1)) hx hb hr (fun t ht hW => ⟨⟨((p0 - p0 / p1 * p1) + p1), σ, rfl, Option.some.inj hF, by rw [ht]; exact hP, va_K.moved hW.alike hK⟩, hS.F ht⟩) hS.2.2 dJ12_floorMod_17

def F_begins_1 (R : Nat → Tw → Int32 → Int32 → Int32 → Option (Int32 × Tw)) (n : Nat) (σ : Tw) (x1 : Int32) (x2 : Int32) (x3 : Int32) : Option (Int32 × Tw) := if 162 ≤ x3 then gd (inB 0 162) (gd (inB 1 162) (gd (inB 2 162) (gd (inB 3 162) (some (0, (tw_sa (tw_sa (tw_sa (tw_sa σ 1 (0 : Int32).toNatClampNeg x1) 1 (1 : Int32).toNatClampNeg x2) 1 (2 : Int32).toNatClampNeg 8) 1 (3 : Int32).toNatClampNeg 8)))))) else gd (inB x3 162) (R 1 (tw_sa σ 1 (x3).toNatClampNeg 0) x1 x2 (x3 + 1))
def F_begins_r : Nat → Nat → Tw → Int32 → Int32 → Int32 → Option (Int32 × Tw)
  | 0 => fun _ _ _ _ _ => none
  | n + 1 => fun k => match k with  | _ => F_begins_1 (F_begins_r n) n
def F_begins_0 (R : Nat → Tw → Int32 → Int32 → Int32 → Option (Int32 × Tw)) (n : Nat) (σ : Tw) (p1 : Int32) (p2 : Int32) : Option (Int32 × Tw) := R 1 σ p1 p2 0
def F_begins (n : Nat) (σ : Tw) (p1 : Int32) (p2 : Int32) : Option (Int32 × Tw) := F_begins_0 (F_begins_r n) n σ p1 p2
set_option maxHeartbeats 4000000 in
set_option maxRecDepth 100000 in
theorem mt_begins (l : Launch) (dC : Nat → ClassId) (dI : Nat → Nat → Nat) (cI cZ : ClassId) (m0 : Nat) (ad : Nat → Nat) (sz : Nat) (σ : Tw) (n : Nat)  (p1 : Int32) (p2 : Int32) (out : Int32 × Tw) (hF : F_begins n σ p1 p2 = some out) : Met l yX5_begins (ws_ yX5_begins cX5_begins 4 none) ({ frames := 0, cells := 0, slots := 0, locals := 0 }) (va_Pc [.ref m0, .int p1, .int p2] (tw_Pre dC dI cI cZ m0 ad sz σ)) (va_Qv (fun u => (0, u) = out) (tw_B dC dI cI cZ m0 ad) (tw_A m0 ad sz)) 0 0 (tw_A m0 ad sz) := by
  refine Met.ofW (cc := cX5_begins) (maxL := 4) (ret := none) (by decide +kernel) rfl ?_
  intro p e s m args below meth c s₁ B hml hv
  obtain ⟨rfl, hsz, hP, hK, hD0⟩ := hv
  have hx := B.exec
  have hb := B.bytes
  have hr := B.returns
  have hts := atoms_spec (ws := (ws_ yX5_begins cX5_begins 4 none)) B.pre
  have hts : ∀ w ∈ lw_all, w.before _ s = true := fun w h => hts w (List.mem_cons_of_mem _ h)
  have hown : s.vm.findClass RX5 = some m.cls := findClass_of_methodNamed B.named
  have hlocks := B.notSynchronized
  subst hsz
  have hD := tw_Ds (z := s.heap.size) hD0
  have hAA := fun z (h : s.heap.size ≤ z) => tw_Am (m0 := m0) (ad := ad) h
  generalize hAe : tw_A m0 ad s.heap.size = A at hD hAA ⊢
  have hS : va_S A s.heap s.heap [] := va_S.rf
  have hP : va_P (dC, dI) vwCl (tw_ws m0 ad cI cZ σ) s.heap := hP
  have hl := lv_entry ([.ref m0, .int p1, .int p2]) (n := 4) (Nat.le_of_ble_eq_true rfl)
  rw [lg_entry_eq]
  generalize (lg_sl ([.ref m0, .int p1, .int p2]) ++ List.replicate (4 - (lg_sl ([.ref m0, .int p1, .int p2])).length) Slot.unset).toArray = ls at hl ⊢
  have hl : lv_has ls 4 [(0, .ref m0), (1, .int p1), (2, .int p2)] := hl
  have loop : ∀ n : Nat, (∀ (σ : Tw) (x1 x2 x3 : Int32), F_begins_r n 1 σ x1 x2 x3 = some out → ∀ (H : Heap) (locs : List Loc), va_P (dC, dI) vwCl (tw_ws m0 ad cI cZ σ) H → va_D A (tw_ws m0 ad cI cZ σ) → va_S A s.heap H locs → ∀ ls : Array Slot, lv_has ls 4 [(0, .ref m0), (1, .int x1), (2, .int x2), (3, .int x3)] → W p l e (headSpec (ws_ yX5_begins cX5_begins 4 none) ({ frames := 0, cells := 0, slots := 0, locals := 0 })).room s m ([.ref m0, .int p1, .int p2] : List Value).toArray below meth c H locs 0 0 (MQ below (va_Qv (fun u => (0, u) = out) (tw_B dC dI cI cZ m0 ad) A) ([.ref m0, .int p1, .int p2] : List Value).toArray s 0 0 A) (F0 m 2 ls [])) := by
    intro n
    induction n with
    | zero => exact (fun _ _ _ _ h => nomatch h)
    | succ n ih =>
      have lp1 := ih
      intro σ x1 x2 x3 hF H locs hP hD hS ls hl
      replace hF : F_begins_1 (F_begins_r n) n σ x1 x2 x3 = some out := hF
      unfold F_begins_1 at hF
      refine lv_iload_n hx hb dX5_begins_2 rfl (lv_at hl 3 rfl) ?_
      refine lv_sipush (v := 162) hx hb dX5_begins_3 (by decide) ?_
      refine lv_icmp_ge (tgt := 22) hx hb dX5_begins_6 (by decide) (fun c1 => ?_) (fun c1 => ?_)
      · replace hF := it_t c1 hF
        refine lv_aload_n hx hb dX5_begins_22 rfl (lv_at hl 0 rfl) ?_
        refine va_get (D := (dC, dI)) (ci := 0) (v := .ref (ad 1)) (C := RX5) (T := TX5) (N := 28) hx hb hts in_X5 hown hK hP 0 tw_g rfl 1 (by decide) (hts _ q1987) (fun _ h9 => h9) rfl dX5_begins_23 ?_
        refine lv_iconst (v := 0) hx hb dX5_begins_26 (by decide) ?_
        refine lv_iload_n hx hb dX5_begins_27 rfl (lv_at hl 1 rfl) ?_
        obtain ⟨g2, hF⟩ := gd_s hF
        refine va_iast hx hb hK hP hD hS 2 0 tw_e1 rfl (x := x1) (inB_in g2) dX5_begins_28 (fun H locs hP hD hS => ?_)
        rw [tw_s1] at hP hD
        refine lv_aload_n hx hb dX5_begins_29 rfl (lv_at hl 0 rfl) ?_
        refine va_get (D := (dC, dI)) (ci := 0) (v := .ref (ad 1)) (C := RX5) (T := TX5) (N := 28) hx hb hts in_X5 hown hK hP 0 tw_g rfl 1 (by decide) (hts _ q1987) (fun _ h9 => h9) rfl dX5_begins_30 ?_
        refine lv_iconst (v := 1) hx hb dX5_begins_33 (by decide) ?_
        refine lv_iload_n hx hb dX5_begins_34 rfl (lv_at hl 2 rfl) ?_
        obtain ⟨g3, hF⟩ := gd_s hF
        refine va_iast hx hb hK hP hD hS 2 0 tw_e1 rfl (x := x2) (inB_in g3) dX5_begins_35 (fun H locs hP hD hS => ?_)
        rw [tw_s1] at hP hD
        refine lv_aload_n hx hb dX5_begins_36 rfl (lv_at hl 0 rfl) ?_
        refine va_get (D := (dC, dI)) (ci := 0) (v := .ref (ad 1)) (C := RX5) (T := TX5) (N := 28) hx hb hts in_X5 hown hK hP 0 tw_g rfl 1 (by decide) (hts _ q1987) (fun _ h9 => h9) rfl dX5_begins_37 ?_
        refine lv_iconst (v := 2) hx hb dX5_begins_40 (by decide) ?_
        refine lv_bipush (v := 8) hx hb dX5_begins_41 (by decide) ?_
        obtain ⟨g4, hF⟩ := gd_s hF
        refine va_iast hx hb hK hP hD hS 2 0 tw_e1 rfl (x := 8) (inB_in g4) dX5_begins_43 (fun H locs hP hD hS => ?_)
        rw [tw_s1] at hP hD
        refine lv_aload_n hx hb dX5_begins_44 rfl (lv_at hl 0 rfl) ?_
        refine va_get (D := (dC, dI)) (ci := 0) (v := .ref (ad 1)) (C := RX5) (T := TX5) (N := 28) hx hb hts in_X5 hown hK hP 0 tw_g rfl 1 (by decide) (hts _ q1987) (fun _ h9 => h9) rfl dX5_begins_45 ?_
        refine lv_iconst (v := 3) hx hb dX5_begins_48 (by decide) ?_
        refine lv_bipush (v := 8) hx hb dX5_begins_49 (by decide) ?_
        obtain ⟨g5, hF⟩ := gd_s hF
        refine va_iast hx hb hK hP hD hS 2 0 tw_e1 rfl (x := 8) (inB_in g5) dX5_begins_51 (fun H locs hP hD hS => ?_)
        rw [tw_s1] at hP hD
        exact W.vret hx hb hr (fun t ht hW => ⟨⟨(tw_sa (tw_sa (tw_sa (tw_sa σ 1 (0 : Int32).toNatClampNeg x1) 1 (1 : Int32).toNatClampNeg x2) 1 (2 : Int32).toNatClampNeg 8) 1 (3 : Int32).toNatClampNeg 8), rfl, Option.some.inj hF, by rw [ht]; exact hP, va_K.moved hW.alike hK⟩, hS.F ht⟩) hS.2.2 dX5_begins_52
      · replace hF := it_f c1 hF
        refine lv_aload_n hx hb dX5_begins_9 rfl (lv_at hl 0 rfl) ?_
        refine va_get (D := (dC, dI)) (ci := 0) (v := .ref (ad 1)) (C := RX5) (T := TX5) (N := 28) hx hb hts in_X5 hown hK hP 0 tw_g rfl 1 (by decide) (hts _ q1987) (fun _ h9 => h9) rfl dX5_begins_10 ?_
        refine lv_iload_n hx hb dX5_begins_13 rfl (lv_at hl 3 rfl) ?_
        refine lv_iconst (v := 0) hx hb dX5_begins_14 (by decide) ?_
        obtain ⟨g6, hF⟩ := gd_s hF
        refine va_iast hx hb hK hP hD hS 2 0 tw_e1 rfl (x := 0) (inB_in g6) dX5_begins_15 (fun H locs hP hD hS => ?_)
        rw [tw_s1] at hP hD
        refine lv_iinc (v := (x3 + 1)) (lv' := [(3, .int (x3 + 1)), (0, .ref m0), (1, .int x1), (2, .int x2)]) hx hb dX5_begins_16 hl (k := 3) rfl rfl (by decide) rfl (fun ls hl => ?_)
        refine lv_goto (tgt := 2) hx hb dX5_begins_19 (by decide) ?_
        exact lp1 (tw_sa σ 1 (x3).toNatClampNeg 0) x1 x2 (x3 + 1) hF _ _ hP hD hS ls (lv_sub hl [1, 2, 3, 0] rfl)
  have lp1 := loop n
  unfold F_begins F_begins_0 at hF
  refine lv_iconst (v := 0) hx hb dX5_begins_0 (by decide) ?_
  refine lv_istore_n (lv' := [(3, .int 0), (0, .ref m0), (1, .int p1), (2, .int p2)]) hx hb dX5_begins_1 rfl hl (by decide) rfl (fun ls hl => ?_)
  exact lp1 σ p1 p2 0 hF _ _ hP hD hS ls (lv_sub hl [1, 2, 3, 0] rfl)

def F_becomes_fresh_1 (R : Nat → Tw → Int32 → Int32 → Option (Int32 × Tw)) (n : Nat) (σ : Tw) (x2 : Int32) (x3 : Int32) : Option (Int32 × Tw) := if 162 ≤ x3 then some (0, σ) else gd (inB (x2 + x3) 162) (gd (inB x3 162) (R 1 (tw_sa σ 0 (x3).toNatClampNeg ((σ).2 1 ((x2 + x3)).toNatClampNeg)) x2 (x3 + 1)))
def F_becomes_fresh_r : Nat → Nat → Tw → Int32 → Int32 → Option (Int32 × Tw)
  | 0 => fun _ _ _ _ => none
  | n + 1 => fun k => match k with  | _ => F_becomes_fresh_1 (F_becomes_fresh_r n) n
def F_becomes_fresh_0 (R : Nat → Tw → Int32 → Int32 → Option (Int32 × Tw)) (n : Nat) (σ : Tw) (p2 : Int32) : Option (Int32 × Tw) := R 1 σ p2 0
def F_becomes_fresh (n : Nat) (σ : Tw) (p2 : Int32) : Option (Int32 × Tw) := F_becomes_fresh_0 (F_becomes_fresh_r n) n σ p2
set_option maxHeartbeats 4000000 in
set_option maxRecDepth 100000 in
theorem mt_becomes_fresh (l : Launch) (dC : Nat → ClassId) (dI : Nat → Nat → Nat) (cI cZ : ClassId) (m0 : Nat) (ad : Nat → Nat) (sz : Nat) (σ : Tw) (n : Nat)  (p2 : Int32) (out : Int32 × Tw) (hF : F_becomes_fresh n σ p2 = some out) : Met l yX5_becomes (ws_ yX5_becomes cX5_becomes 4 none) ({ frames := 0, cells := 0, slots := 0, locals := 0 }) (va_Pc [.ref m0, .ref (ad 1), .int p2] (tw_Pre dC dI cI cZ m0 ad sz σ)) (va_Qv (fun u => (0, u) = out) (tw_B dC dI cI cZ m0 ad) (tw_A m0 ad sz)) 0 0 (tw_A m0 ad sz) := by
  refine Met.ofW (cc := cX5_becomes) (maxL := 4) (ret := none) (by decide +kernel) rfl ?_
  intro p e s m args below meth c s₁ B hml hv
  obtain ⟨rfl, hsz, hP, hK, hD0⟩ := hv
  have hx := B.exec
  have hb := B.bytes
  have hr := B.returns
  have hts := atoms_spec (ws := (ws_ yX5_becomes cX5_becomes 4 none)) B.pre
  have hts : ∀ w ∈ lw_all, w.before _ s = true := fun w h => hts w (List.mem_cons_of_mem _ h)
  have hown : s.vm.findClass RX5 = some m.cls := findClass_of_methodNamed B.named
  have hlocks := B.notSynchronized
  subst hsz
  have hD := tw_Ds (z := s.heap.size) hD0
  have hAA := fun z (h : s.heap.size ≤ z) => tw_Am (m0 := m0) (ad := ad) h
  generalize hAe : tw_A m0 ad s.heap.size = A at hD hAA ⊢
  have hS : va_S A s.heap s.heap [] := va_S.rf
  have hP : va_P (dC, dI) vwCl (tw_ws m0 ad cI cZ σ) s.heap := hP
  have hl := lv_entry ([.ref m0, .ref (ad 1), .int p2]) (n := 4) (Nat.le_of_ble_eq_true rfl)
  rw [lg_entry_eq]
  generalize (lg_sl ([.ref m0, .ref (ad 1), .int p2]) ++ List.replicate (4 - (lg_sl ([.ref m0, .ref (ad 1), .int p2])).length) Slot.unset).toArray = ls at hl ⊢
  have hl : lv_has ls 4 [(0, .ref m0), (1, .ref (ad 1)), (2, .int p2)] := hl
  have loop : ∀ n : Nat, (∀ (σ : Tw) (x2 x3 : Int32), F_becomes_fresh_r n 1 σ x2 x3 = some out → ∀ (H : Heap) (locs : List Loc), va_P (dC, dI) vwCl (tw_ws m0 ad cI cZ σ) H → va_D A (tw_ws m0 ad cI cZ σ) → va_S A s.heap H locs → ∀ ls : Array Slot, lv_has ls 4 [(0, .ref m0), (1, .ref (ad 1)), (2, .int x2), (3, .int x3)] → W p l e (headSpec (ws_ yX5_becomes cX5_becomes 4 none) ({ frames := 0, cells := 0, slots := 0, locals := 0 })).room s m ([.ref m0, .ref (ad 1), .int p2] : List Value).toArray below meth c H locs 0 0 (MQ below (va_Qv (fun u => (0, u) = out) (tw_B dC dI cI cZ m0 ad) A) ([.ref m0, .ref (ad 1), .int p2] : List Value).toArray s 0 0 A) (F0 m 2 ls [])) := by
    intro n
    induction n with
    | zero => exact (fun _ _ _ h => nomatch h)
    | succ n ih =>
      have lp1 := ih
      intro σ x2 x3 hF H locs hP hD hS ls hl
      replace hF : F_becomes_fresh_1 (F_becomes_fresh_r n) n σ x2 x3 = some out := hF
      unfold F_becomes_fresh_1 at hF
      refine lv_iload_n hx hb dX5_becomes_2 rfl (lv_at hl 3 rfl) ?_
      refine lv_sipush (v := 162) hx hb dX5_becomes_3 (by decide) ?_
      refine lv_icmp_ge (tgt := 26) hx hb dX5_becomes_6 (by decide) (fun c1 => ?_) (fun c1 => ?_)
      · replace hF := it_t c1 hF
        exact W.vret hx hb hr (fun t ht hW => ⟨⟨σ, rfl, Option.some.inj hF, by rw [ht]; exact hP, va_K.moved hW.alike hK⟩, hS.F ht⟩) hS.2.2 dX5_becomes_26
      · replace hF := it_f c1 hF
        refine lv_aload_n hx hb dX5_becomes_9 rfl (lv_at hl 0 rfl) ?_
        refine va_get (D := (dC, dI)) (ci := 0) (v := .ref (ad 0)) (C := RX5) (T := TX5) (N := 28) hx hb hts in_X5 hown hK hP 0 tw_g rfl 0 (by decide) (hts _ q1986) (fun _ h9 => h9) rfl dX5_becomes_10 ?_
        refine lv_iload_n hx hb dX5_becomes_13 rfl (lv_at hl 3 rfl) ?_
        refine lv_aload_n hx hb dX5_becomes_14 rfl (lv_at hl 1 rfl) ?_
        refine lv_iload_n hx hb dX5_becomes_15 rfl (lv_at hl 2 rfl) ?_
        refine lv_iload_n hx hb dX5_becomes_16 rfl (lv_at hl 3 rfl) ?_
        refine lv_iadd hx hb dX5_becomes_17 ?_
        obtain ⟨g2, hF⟩ := gd_s hF
        refine va_iald hx hb hK hP 2 0 tw_e1 rfl (inB_in g2) dX5_becomes_18 ?_
        obtain ⟨g3, hF⟩ := gd_s hF
        refine va_iast hx hb hK hP hD hS 1 0 tw_e0 rfl (x := ((σ).2 1 ((x2 + x3)).toNatClampNeg)) (inB_in g3) dX5_becomes_19 (fun H locs hP hD hS => ?_)
        rw [tw_s0] at hP hD
        refine lv_iinc (v := (x3 + 1)) (lv' := [(3, .int (x3 + 1)), (0, .ref m0), (1, .ref (ad 1)), (2, .int x2)]) hx hb dX5_becomes_20 hl (k := 3) rfl rfl (by decide) rfl (fun ls hl => ?_)
        refine lv_goto (tgt := 2) hx hb dX5_becomes_23 (by decide) ?_
        exact lp1 (tw_sa σ 0 (x3).toNatClampNeg ((σ).2 1 ((x2 + x3)).toNatClampNeg)) x2 (x3 + 1) hF _ _ hP hD hS ls (lv_sub hl [1, 2, 3, 0] rfl)
  have lp1 := loop n
  unfold F_becomes_fresh F_becomes_fresh_0 at hF
  refine lv_iconst (v := 0) hx hb dX5_becomes_0 (by decide) ?_
  refine lv_istore_n (lv' := [(3, .int 0), (0, .ref m0), (1, .ref (ad 1)), (2, .int p2)]) hx hb dX5_becomes_1 rfl hl (by decide) rfl (fun ls hl => ?_)
  exact lp1 σ p2 0 hF _ _ hP hD hS ls (lv_sub hl [1, 2, 3, 0] rfl)

def F_becomes_kept_1 (R : Nat → Tw → Int32 → Int32 → Option (Int32 × Tw)) (n : Nat) (σ : Tw) (x2 : Int32) (x3 : Int32) : Option (Int32 × Tw) := if 162 ≤ x3 then some (0, σ) else gd (inB (x2 + x3) 1296) (gd (inB x3 162) (R 1 (tw_sa σ 0 (x3).toNatClampNeg ((σ).2 2 ((x2 + x3)).toNatClampNeg)) x2 (x3 + 1)))
def F_becomes_kept_r : Nat → Nat → Tw → Int32 → Int32 → Option (Int32 × Tw)
  | 0 => fun _ _ _ _ => none
  | n + 1 => fun k => match k with  | _ => F_becomes_kept_1 (F_becomes_kept_r n) n
def F_becomes_kept_0 (R : Nat → Tw → Int32 → Int32 → Option (Int32 × Tw)) (n : Nat) (σ : Tw) (p2 : Int32) : Option (Int32 × Tw) := R 1 σ p2 0
def F_becomes_kept (n : Nat) (σ : Tw) (p2 : Int32) : Option (Int32 × Tw) := F_becomes_kept_0 (F_becomes_kept_r n) n σ p2
set_option maxHeartbeats 4000000 in
set_option maxRecDepth 100000 in
theorem mt_becomes_kept (l : Launch) (dC : Nat → ClassId) (dI : Nat → Nat → Nat) (cI cZ : ClassId) (m0 : Nat) (ad : Nat → Nat) (sz : Nat) (σ : Tw) (n : Nat)  (p2 : Int32) (out : Int32 × Tw) (hF : F_becomes_kept n σ p2 = some out) : Met l yX5_becomes (ws_ yX5_becomes cX5_becomes 4 none) ({ frames := 0, cells := 0, slots := 0, locals := 0 }) (va_Pc [.ref m0, .ref (ad 2), .int p2] (tw_Pre dC dI cI cZ m0 ad sz σ)) (va_Qv (fun u => (0, u) = out) (tw_B dC dI cI cZ m0 ad) (tw_A m0 ad sz)) 0 0 (tw_A m0 ad sz) := by
  refine Met.ofW (cc := cX5_becomes) (maxL := 4) (ret := none) (by decide +kernel) rfl ?_
  intro p e s m args below meth c s₁ B hml hv
  obtain ⟨rfl, hsz, hP, hK, hD0⟩ := hv
  have hx := B.exec
  have hb := B.bytes
  have hr := B.returns
  have hts := atoms_spec (ws := (ws_ yX5_becomes cX5_becomes 4 none)) B.pre
  have hts : ∀ w ∈ lw_all, w.before _ s = true := fun w h => hts w (List.mem_cons_of_mem _ h)
  have hown : s.vm.findClass RX5 = some m.cls := findClass_of_methodNamed B.named
  have hlocks := B.notSynchronized
  subst hsz
  have hD := tw_Ds (z := s.heap.size) hD0
  have hAA := fun z (h : s.heap.size ≤ z) => tw_Am (m0 := m0) (ad := ad) h
  generalize hAe : tw_A m0 ad s.heap.size = A at hD hAA ⊢
  have hS : va_S A s.heap s.heap [] := va_S.rf
  have hP : va_P (dC, dI) vwCl (tw_ws m0 ad cI cZ σ) s.heap := hP
  have hl := lv_entry ([.ref m0, .ref (ad 2), .int p2]) (n := 4) (Nat.le_of_ble_eq_true rfl)
  rw [lg_entry_eq]
  generalize (lg_sl ([.ref m0, .ref (ad 2), .int p2]) ++ List.replicate (4 - (lg_sl ([.ref m0, .ref (ad 2), .int p2])).length) Slot.unset).toArray = ls at hl ⊢
  have hl : lv_has ls 4 [(0, .ref m0), (1, .ref (ad 2)), (2, .int p2)] := hl
  have loop : ∀ n : Nat, (∀ (σ : Tw) (x2 x3 : Int32), F_becomes_kept_r n 1 σ x2 x3 = some out → ∀ (H : Heap) (locs : List Loc), va_P (dC, dI) vwCl (tw_ws m0 ad cI cZ σ) H → va_D A (tw_ws m0 ad cI cZ σ) → va_S A s.heap H locs → ∀ ls : Array Slot, lv_has ls 4 [(0, .ref m0), (1, .ref (ad 2)), (2, .int x2), (3, .int x3)] → W p l e (headSpec (ws_ yX5_becomes cX5_becomes 4 none) ({ frames := 0, cells := 0, slots := 0, locals := 0 })).room s m ([.ref m0, .ref (ad 2), .int p2] : List Value).toArray below meth c H locs 0 0 (MQ below (va_Qv (fun u => (0, u) = out) (tw_B dC dI cI cZ m0 ad) A) ([.ref m0, .ref (ad 2), .int p2] : List Value).toArray s 0 0 A) (F0 m 2 ls [])) := by
    intro n
    induction n with
    | zero => exact (fun _ _ _ h => nomatch h)
    | succ n ih =>
      have lp1 := ih
      intro σ x2 x3 hF H locs hP hD hS ls hl
      replace hF : F_becomes_kept_1 (F_becomes_kept_r n) n σ x2 x3 = some out := hF
      unfold F_becomes_kept_1 at hF
      refine lv_iload_n hx hb dX5_becomes_2 rfl (lv_at hl 3 rfl) ?_
      refine lv_sipush (v := 162) hx hb dX5_becomes_3 (by decide) ?_
      refine lv_icmp_ge (tgt := 26) hx hb dX5_becomes_6 (by decide) (fun c1 => ?_) (fun c1 => ?_)
      · replace hF := it_t c1 hF
        exact W.vret hx hb hr (fun t ht hW => ⟨⟨σ, rfl, Option.some.inj hF, by rw [ht]; exact hP, va_K.moved hW.alike hK⟩, hS.F ht⟩) hS.2.2 dX5_becomes_26
      · replace hF := it_f c1 hF
        refine lv_aload_n hx hb dX5_becomes_9 rfl (lv_at hl 0 rfl) ?_
        refine va_get (D := (dC, dI)) (ci := 0) (v := .ref (ad 0)) (C := RX5) (T := TX5) (N := 28) hx hb hts in_X5 hown hK hP 0 tw_g rfl 0 (by decide) (hts _ q1986) (fun _ h9 => h9) rfl dX5_becomes_10 ?_
        refine lv_iload_n hx hb dX5_becomes_13 rfl (lv_at hl 3 rfl) ?_
        refine lv_aload_n hx hb dX5_becomes_14 rfl (lv_at hl 1 rfl) ?_
        refine lv_iload_n hx hb dX5_becomes_15 rfl (lv_at hl 2 rfl) ?_
        refine lv_iload_n hx hb dX5_becomes_16 rfl (lv_at hl 3 rfl) ?_
        refine lv_iadd hx hb dX5_becomes_17 ?_
        obtain ⟨g2, hF⟩ := gd_s hF
        refine va_iald hx hb hK hP 3 0 tw_e2 rfl (inB_in g2) dX5_becomes_18 ?_
        obtain ⟨g3, hF⟩ := gd_s hF
        refine va_iast hx hb hK hP hD hS 1 0 tw_e0 rfl (x := ((σ).2 2 ((x2 + x3)).toNatClampNeg)) (inB_in g3) dX5_becomes_19 (fun H locs hP hD hS => ?_)
        rw [tw_s0] at hP hD
        refine lv_iinc (v := (x3 + 1)) (lv' := [(3, .int (x3 + 1)), (0, .ref m0), (1, .ref (ad 2)), (2, .int x2)]) hx hb dX5_becomes_20 hl (k := 3) rfl rfl (by decide) rfl (fun ls hl => ?_)
        refine lv_goto (tgt := 2) hx hb dX5_becomes_23 (by decide) ?_
        exact lp1 (tw_sa σ 0 (x3).toNatClampNeg ((σ).2 2 ((x2 + x3)).toNatClampNeg)) x2 (x3 + 1) hF _ _ hP hD hS ls (lv_sub hl [1, 2, 3, 0] rfl)
  have lp1 := loop n
  unfold F_becomes_kept F_becomes_kept_0 at hF
  refine lv_iconst (v := 0) hx hb dX5_becomes_0 (by decide) ?_
  refine lv_istore_n (lv' := [(3, .int 0), (0, .ref m0), (1, .ref (ad 2)), (2, .int p2)]) hx hb dX5_becomes_1 rfl hl (by decide) rfl (fun ls hl => ?_)
  exact lp1 σ p2 0 hF _ _ hP hD hS ls (lv_sub hl [1, 2, 3, 0] rfl)

def F_becomes_slots_1 (R : Nat → Tw → Int32 → Int32 → Option (Int32 × Tw)) (n : Nat) (σ : Tw) (x2 : Int32) (x3 : Int32) : Option (Int32 × Tw) := if 162 ≤ x3 then some (0, σ) else gd (inB (x2 + x3) 324) (gd (inB x3 162) (R 1 (tw_sa σ 0 (x3).toNatClampNeg ((σ).2 3 ((x2 + x3)).toNatClampNeg)) x2 (x3 + 1)))
def F_becomes_slots_r : Nat → Nat → Tw → Int32 → Int32 → Option (Int32 × Tw)
  | 0 => fun _ _ _ _ => none
  | n + 1 => fun k => match k with  | _ => F_becomes_slots_1 (F_becomes_slots_r n) n
def F_becomes_slots_0 (R : Nat → Tw → Int32 → Int32 → Option (Int32 × Tw)) (n : Nat) (σ : Tw) (p2 : Int32) : Option (Int32 × Tw) := R 1 σ p2 0
def F_becomes_slots (n : Nat) (σ : Tw) (p2 : Int32) : Option (Int32 × Tw) := F_becomes_slots_0 (F_becomes_slots_r n) n σ p2
set_option maxHeartbeats 4000000 in
set_option maxRecDepth 100000 in
theorem mt_becomes_slots (l : Launch) (dC : Nat → ClassId) (dI : Nat → Nat → Nat) (cI cZ : ClassId) (m0 : Nat) (ad : Nat → Nat) (sz : Nat) (σ : Tw) (n : Nat)  (p2 : Int32) (out : Int32 × Tw) (hF : F_becomes_slots n σ p2 = some out) : Met l yX5_becomes (ws_ yX5_becomes cX5_becomes 4 none) ({ frames := 0, cells := 0, slots := 0, locals := 0 }) (va_Pc [.ref m0, .ref (ad 3), .int p2] (tw_Pre dC dI cI cZ m0 ad sz σ)) (va_Qv (fun u => (0, u) = out) (tw_B dC dI cI cZ m0 ad) (tw_A m0 ad sz)) 0 0 (tw_A m0 ad sz) := by
  refine Met.ofW (cc := cX5_becomes) (maxL := 4) (ret := none) (by decide +kernel) rfl ?_
  intro p e s m args below meth c s₁ B hml hv
  obtain ⟨rfl, hsz, hP, hK, hD0⟩ := hv
  have hx := B.exec
  have hb := B.bytes
  have hr := B.returns
  have hts := atoms_spec (ws := (ws_ yX5_becomes cX5_becomes 4 none)) B.pre
  have hts : ∀ w ∈ lw_all, w.before _ s = true := fun w h => hts w (List.mem_cons_of_mem _ h)
  have hown : s.vm.findClass RX5 = some m.cls := findClass_of_methodNamed B.named
  have hlocks := B.notSynchronized
  subst hsz
  have hD := tw_Ds (z := s.heap.size) hD0
  have hAA := fun z (h : s.heap.size ≤ z) => tw_Am (m0 := m0) (ad := ad) h
  generalize hAe : tw_A m0 ad s.heap.size = A at hD hAA ⊢
  have hS : va_S A s.heap s.heap [] := va_S.rf
  have hP : va_P (dC, dI) vwCl (tw_ws m0 ad cI cZ σ) s.heap := hP
  have hl := lv_entry ([.ref m0, .ref (ad 3), .int p2]) (n := 4) (Nat.le_of_ble_eq_true rfl)
  rw [lg_entry_eq]
  generalize (lg_sl ([.ref m0, .ref (ad 3), .int p2]) ++ List.replicate (4 - (lg_sl ([.ref m0, .ref (ad 3), .int p2])).length) Slot.unset).toArray = ls at hl ⊢
  have hl : lv_has ls 4 [(0, .ref m0), (1, .ref (ad 3)), (2, .int p2)] := hl
  have loop : ∀ n : Nat, (∀ (σ : Tw) (x2 x3 : Int32), F_becomes_slots_r n 1 σ x2 x3 = some out → ∀ (H : Heap) (locs : List Loc), va_P (dC, dI) vwCl (tw_ws m0 ad cI cZ σ) H → va_D A (tw_ws m0 ad cI cZ σ) → va_S A s.heap H locs → ∀ ls : Array Slot, lv_has ls 4 [(0, .ref m0), (1, .ref (ad 3)), (2, .int x2), (3, .int x3)] → W p l e (headSpec (ws_ yX5_becomes cX5_becomes 4 none) ({ frames := 0, cells := 0, slots := 0, locals := 0 })).room s m ([.ref m0, .ref (ad 3), .int p2] : List Value).toArray below meth c H locs 0 0 (MQ below (va_Qv (fun u => (0, u) = out) (tw_B dC dI cI cZ m0 ad) A) ([.ref m0, .ref (ad 3), .int p2] : List Value).toArray s 0 0 A) (F0 m 2 ls [])) := by
    intro n
    induction n with
    | zero => exact (fun _ _ _ h => nomatch h)
    | succ n ih =>
      have lp1 := ih
      intro σ x2 x3 hF H locs hP hD hS ls hl
      replace hF : F_becomes_slots_1 (F_becomes_slots_r n) n σ x2 x3 = some out := hF
      unfold F_becomes_slots_1 at hF
      refine lv_iload_n hx hb dX5_becomes_2 rfl (lv_at hl 3 rfl) ?_
      refine lv_sipush (v := 162) hx hb dX5_becomes_3 (by decide) ?_
      refine lv_icmp_ge (tgt := 26) hx hb dX5_becomes_6 (by decide) (fun c1 => ?_) (fun c1 => ?_)
      · replace hF := it_t c1 hF
        exact W.vret hx hb hr (fun t ht hW => ⟨⟨σ, rfl, Option.some.inj hF, by rw [ht]; exact hP, va_K.moved hW.alike hK⟩, hS.F ht⟩) hS.2.2 dX5_becomes_26
      · replace hF := it_f c1 hF
        refine lv_aload_n hx hb dX5_becomes_9 rfl (lv_at hl 0 rfl) ?_
        refine va_get (D := (dC, dI)) (ci := 0) (v := .ref (ad 0)) (C := RX5) (T := TX5) (N := 28) hx hb hts in_X5 hown hK hP 0 tw_g rfl 0 (by decide) (hts _ q1986) (fun _ h9 => h9) rfl dX5_becomes_10 ?_
        refine lv_iload_n hx hb dX5_becomes_13 rfl (lv_at hl 3 rfl) ?_
        refine lv_aload_n hx hb dX5_becomes_14 rfl (lv_at hl 1 rfl) ?_
        refine lv_iload_n hx hb dX5_becomes_15 rfl (lv_at hl 2 rfl) ?_
        refine lv_iload_n hx hb dX5_becomes_16 rfl (lv_at hl 3 rfl) ?_
        refine lv_iadd hx hb dX5_becomes_17 ?_
        obtain ⟨g2, hF⟩ := gd_s hF
        refine va_iald hx hb hK hP 4 0 tw_e3 rfl (inB_in g2) dX5_becomes_18 ?_
        obtain ⟨g3, hF⟩ := gd_s hF
        refine va_iast hx hb hK hP hD hS 1 0 tw_e0 rfl (x := ((σ).2 3 ((x2 + x3)).toNatClampNeg)) (inB_in g3) dX5_becomes_19 (fun H locs hP hD hS => ?_)
        rw [tw_s0] at hP hD
        refine lv_iinc (v := (x3 + 1)) (lv' := [(3, .int (x3 + 1)), (0, .ref m0), (1, .ref (ad 3)), (2, .int x2)]) hx hb dX5_becomes_20 hl (k := 3) rfl rfl (by decide) rfl (fun ls hl => ?_)
        refine lv_goto (tgt := 2) hx hb dX5_becomes_23 (by decide) ?_
        exact lp1 (tw_sa σ 0 (x3).toNatClampNeg ((σ).2 3 ((x2 + x3)).toNatClampNeg)) x2 (x3 + 1) hF _ _ hP hD hS ls (lv_sub hl [1, 2, 3, 0] rfl)
  have lp1 := loop n
  unfold F_becomes_slots F_becomes_slots_0 at hF
  refine lv_iconst (v := 0) hx hb dX5_becomes_0 (by decide) ?_
  refine lv_istore_n (lv' := [(3, .int 0), (0, .ref m0), (1, .ref (ad 3)), (2, .int p2)]) hx hb dX5_becomes_1 rfl hl (by decide) rfl (fun ls hl => ?_)
  exact lp1 σ p2 0 hF _ _ hP hD hS ls (lv_sub hl [1, 2, 3, 0] rfl)

def F_thrown (σ : Tw) : Option (Int32 × Tw) := some (((σ).1 6), σ)
set_option maxHeartbeats 4000000 in
set_option maxRecDepth 100000 in
theorem mt_thrown (l : Launch) (dC : Nat → ClassId) (dI : Nat → Nat → Nat) (cI cZ : ClassId) (m0 : Nat) (ad : Nat → Nat) (sz : Nat) (σ : Tw)  (out : Int32 × Tw) (hF : F_thrown σ  = some out) : Met l yX5_thrown (ws_ yX5_thrown cX5_thrown 1 (some .int)) ({ frames := 0, cells := 0, slots := 0, locals := 0 }) (va_Pc [.ref m0] (tw_Pre dC dI cI cZ m0 ad sz σ)) (va_Qi (fun r u => (r, u) = out) (tw_B dC dI cI cZ m0 ad) (tw_A m0 ad sz)) 0 0 (tw_A m0 ad sz) := by
  refine Met.ofW (cc := cX5_thrown) (maxL := 1) (ret := (some .int)) (by decide +kernel) rfl ?_
  intro p e s m args below meth c s₁ B hml hv
  obtain ⟨rfl, hsz, hP, hK, hD0⟩ := hv
  have hx := B.exec
  have hb := B.bytes
  have hr := B.returns
  have hts := atoms_spec (ws := (ws_ yX5_thrown cX5_thrown 1 (some .int))) B.pre
  have hts : ∀ w ∈ lw_all, w.before _ s = true := fun w h => hts w (List.mem_cons_of_mem _ h)
  have hown : s.vm.findClass RX5 = some m.cls := findClass_of_methodNamed B.named
  have hlocks := B.notSynchronized
  subst hsz
  have hD := tw_Ds (z := s.heap.size) hD0
  have hAA := fun z (h : s.heap.size ≤ z) => tw_Am (m0 := m0) (ad := ad) h
  generalize hAe : tw_A m0 ad s.heap.size = A at hD hAA ⊢
  have hS : va_S A s.heap s.heap [] := va_S.rf
  have hP : va_P (dC, dI) vwCl (tw_ws m0 ad cI cZ σ) s.heap := hP
  have hl := lv_entry ([.ref m0]) (n := 1) (Nat.le_of_ble_eq_true rfl)
  rw [lg_entry_eq]
  generalize (lg_sl ([.ref m0]) ++ List.replicate (1 - (lg_sl ([.ref m0])).length) Slot.unset).toArray = ls at hl ⊢
  have hl : lv_has ls 1 [(0, .ref m0)] := hl
  unfold F_thrown at hF
  refine lv_aload_n hx hb dX5_thrown_0 rfl (lv_at hl 0 rfl) ?_
  refine va_get (D := (dC, dI)) (ci := 0) (v := .int ((σ).1 6)) (C := RX5) (T := TX5) (N := 28) hx hb hts in_X5 hown hK hP 0 tw_g rfl 6 (by decide) (hts _ q1992) (fun _ h9 => h9) rfl dX5_thrown_1 ?_
  exact W.iret (v := ((σ).1 6)) hx hb hr (fun t ht hW => ⟨⟨((σ).1 6), σ, rfl, Option.some.inj hF, by rw [ht]; exact hP, va_K.moved hW.alike hK⟩, hS.F ht⟩) hS.2.2 dX5_thrown_4

def F_isIn (σ : Tw) (p0 : Int32) (p1 : Int32) (p2 : Int32) : Option (Int32 × Tw) := if p0 < p1 then some (0, σ) else if p2 < p0 then some (0, σ) else some (1, σ)
set_option maxHeartbeats 4000000 in
set_option maxRecDepth 100000 in
theorem mt_isIn (l : Launch) (dC : Nat → ClassId) (dI : Nat → Nat → Nat) (cI cZ : ClassId) (m0 : Nat) (ad : Nat → Nat) (sz : Nat) (σ : Tw)  (p0 : Int32) (p1 : Int32) (p2 : Int32) (out : Int32 × Tw) (hF : F_isIn σ p0 p1 p2 = some out) : Met l yX5_isIn (ws_ yX5_isIn cX5_isIn 3 (some .boolean)) ({ frames := 0, cells := 0, slots := 0, locals := 0 }) (va_Pc [.int p0, .int p1, .int p2] (tw_Pre dC dI cI cZ m0 ad sz σ)) (va_Qi (fun r u => (r, u) = out) (tw_B dC dI cI cZ m0 ad) (tw_A m0 ad sz)) 0 0 (tw_A m0 ad sz) := by
  refine Met.ofW (cc := cX5_isIn) (maxL := 3) (ret := (some .boolean)) (by decide +kernel) rfl ?_
  intro p e s m args below meth c s₁ B hml hv
  obtain ⟨rfl, hsz, hP, hK, hD0⟩ := hv
  have hx := B.exec
  have hb := B.bytes
  have hr := B.returns
  have hts := atoms_spec (ws := (ws_ yX5_isIn cX5_isIn 3 (some .boolean))) B.pre
  have hts : ∀ w ∈ lw_all, w.before _ s = true := fun w h => hts w (List.mem_cons_of_mem _ h)
  have hown : s.vm.findClass RX5 = some m.cls := findClass_of_methodNamed B.named
  have hlocks := B.notSynchronized
  subst hsz
  have hD := tw_Ds (z := s.heap.size) hD0
  have hAA := fun z (h : s.heap.size ≤ z) => tw_Am (m0 := m0) (ad := ad) h
  generalize hAe : tw_A m0 ad s.heap.size = A at hD hAA ⊢
  have hS : va_S A s.heap s.heap [] := va_S.rf
  have hP : va_P (dC, dI) vwCl (tw_ws m0 ad cI cZ σ) s.heap := hP
  have hl := lv_entry ([.int p0, .int p1, .int p2]) (n := 3) (Nat.le_of_ble_eq_true rfl)
  rw [lg_entry_eq]
  generalize (lg_sl ([.int p0, .int p1, .int p2]) ++ List.replicate (3 - (lg_sl ([.int p0, .int p1, .int p2])).length) Slot.unset).toArray = ls at hl ⊢
  have hl : lv_has ls 3 [(0, .int p0), (1, .int p1), (2, .int p2)] := hl
  unfold F_isIn at hF
  refine lv_iload_n hx hb dX5_isIn_0 rfl (lv_at hl 0 rfl) ?_
  refine lv_iload_n hx hb dX5_isIn_1 rfl (lv_at hl 1 rfl) ?_
  refine lv_icmp_lt (tgt := 14) hx hb dX5_isIn_2 (by decide) (fun c1 => ?_) (fun c1 => ?_)
  · replace hF := it_t c1 hF
    refine lv_iconst (v := 0) hx hb dX5_isIn_14 (by decide) ?_
    exact W.zret (v := 0) hx hb hr rfl (fun t ht hW => ⟨⟨0, σ, rfl, Option.some.inj hF, by rw [ht]; exact hP, va_K.moved hW.alike hK⟩, hS.F ht⟩) hS.2.2 dX5_isIn_15
  · replace hF := it_f c1 hF
    refine lv_iload_n hx hb dX5_isIn_5 rfl (lv_at hl 0 rfl) ?_
    refine lv_iload_n hx hb dX5_isIn_6 rfl (lv_at hl 2 rfl) ?_
    refine lv_icmp_gt (tgt := 14) hx hb dX5_isIn_7 (by decide) (fun c2 => ?_) (fun c2 => ?_)
    · replace hF := it_t c2 hF
      refine lv_iconst (v := 0) hx hb dX5_isIn_14 (by decide) ?_
      exact W.zret (v := 0) hx hb hr rfl (fun t ht hW => ⟨⟨0, σ, rfl, Option.some.inj hF, by rw [ht]; exact hP, va_K.moved hW.alike hK⟩, hS.F ht⟩) hS.2.2 dX5_isIn_15
    · replace hF := it_f c2 hF
      refine lv_iconst (v := 1) hx hb dX5_isIn_10 (by decide) ?_
      refine lv_goto (tgt := 15) hx hb dX5_isIn_11 (by decide) ?_
      exact W.zret (v := 1) hx hb hr rfl (fun t ht hW => ⟨⟨1, σ, rfl, Option.some.inj hF, by rw [ht]; exact hP, va_K.moved hW.alike hK⟩, hS.F ht⟩) hS.2.2 dX5_isIn_15

def F_keeps_1 (R : Nat → Tw → Int32 → Option (Int32 × Tw)) (n : Nat) (σ : Tw) (x1 : Int32) : Option (Int32 × Tw) := if 1134 ≤ x1 then R 2 (tw_sf σ 5 (((σ).1 5) - 1)) 0 else gd (inB (x1 + 162) 1296) (gd (inB x1 1296) (R 1 (tw_sa σ 2 (x1).toNatClampNeg ((σ).2 2 ((x1 + 162)).toNatClampNeg)) (x1 + 1)))
def F_keeps_2 (R : Nat → Tw → Int32 → Option (Int32 × Tw)) (n : Nat) (σ : Tw) (x1 : Int32) : Option (Int32 × Tw) := if 162 ≤ x1 then some (0, (tw_sf σ 5 (((σ).1 5) + 1))) else gd (inB x1 162) (gd (inB ((162 * ((σ).1 5)) + x1) 1296) (R 2 (tw_sa σ 2 (((162 * ((σ).1 5)) + x1)).toNatClampNeg ((σ).2 0 (x1).toNatClampNeg)) (x1 + 1)))
def F_keeps_r : Nat → Nat → Tw → Int32 → Option (Int32 × Tw)
  | 0 => fun _ _ _ => none
  | n + 1 => fun k => match k with | 1 => F_keeps_1 (F_keeps_r n) n | _ => F_keeps_2 (F_keeps_r n) n
def F_keeps_0 (R : Nat → Tw → Int32 → Option (Int32 × Tw)) (n : Nat) (σ : Tw) : Option (Int32 × Tw) := if ((σ).1 5) = 8 then R 1 σ 0 else R 2 σ 0
def F_keeps (n : Nat) (σ : Tw) : Option (Int32 × Tw) := F_keeps_0 (F_keeps_r n) n σ 
set_option maxHeartbeats 4000000 in
set_option maxRecDepth 100000 in
theorem mt_keeps (l : Launch) (dC : Nat → ClassId) (dI : Nat → Nat → Nat) (cI cZ : ClassId) (m0 : Nat) (ad : Nat → Nat) (sz : Nat) (σ : Tw) (n : Nat)  (out : Int32 × Tw) (hF : F_keeps n σ  = some out) : Met l yX5_keeps (ws_ yX5_keeps cX5_keeps 2 none) ({ frames := 0, cells := 0, slots := 0, locals := 0 }) (va_Pc [.ref m0] (tw_Pre dC dI cI cZ m0 ad sz σ)) (va_Qv (fun u => (0, u) = out) (tw_B dC dI cI cZ m0 ad) (tw_A m0 ad sz)) 0 0 (tw_A m0 ad sz) := by
  refine Met.ofW (cc := cX5_keeps) (maxL := 2) (ret := none) (by decide +kernel) rfl ?_
  intro p e s m args below meth c s₁ B hml hv
  obtain ⟨rfl, hsz, hP, hK, hD0⟩ := hv
  have hx := B.exec
  have hb := B.bytes
  have hr := B.returns
  have hts := atoms_spec (ws := (ws_ yX5_keeps cX5_keeps 2 none)) B.pre
  have hts : ∀ w ∈ lw_all, w.before _ s = true := fun w h => hts w (List.mem_cons_of_mem _ h)
  have hown : s.vm.findClass RX5 = some m.cls := findClass_of_methodNamed B.named
  have hlocks := B.notSynchronized
  subst hsz
  have hD := tw_Ds (z := s.heap.size) hD0
  have hAA := fun z (h : s.heap.size ≤ z) => tw_Am (m0 := m0) (ad := ad) h
  generalize hAe : tw_A m0 ad s.heap.size = A at hD hAA ⊢
  have hS : va_S A s.heap s.heap [] := va_S.rf
  have hP : va_P (dC, dI) vwCl (tw_ws m0 ad cI cZ σ) s.heap := hP
  have hl := lv_entry ([.ref m0]) (n := 2) (Nat.le_of_ble_eq_true rfl)
  rw [lg_entry_eq]
  generalize (lg_sl ([.ref m0]) ++ List.replicate (2 - (lg_sl ([.ref m0])).length) Slot.unset).toArray = ls at hl ⊢
  have hl : lv_has ls 2 [(0, .ref m0)] := hl
  have loop : ∀ n : Nat, (∀ (σ : Tw) (x1 : Int32), F_keeps_r n 1 σ x1 = some out → ∀ (H : Heap) (locs : List Loc), va_P (dC, dI) vwCl (tw_ws m0 ad cI cZ σ) H → va_D A (tw_ws m0 ad cI cZ σ) → va_S A s.heap H locs → ∀ ls : Array Slot, lv_has ls 2 [(0, .ref m0), (1, .int x1)] → W p l e (headSpec (ws_ yX5_keeps cX5_keeps 2 none) ({ frames := 0, cells := 0, slots := 0, locals := 0 })).room s m ([.ref m0] : List Value).toArray below meth c H locs 0 0 (MQ below (va_Qv (fun u => (0, u) = out) (tw_B dC dI cI cZ m0 ad) A) ([.ref m0] : List Value).toArray s 0 0 A) (F0 m 11 ls [])) ∧ (∀ (σ : Tw) (x1 : Int32), F_keeps_r n 2 σ x1 = some out → ∀ (H : Heap) (locs : List Loc), va_P (dC, dI) vwCl (tw_ws m0 ad cI cZ σ) H → va_D A (tw_ws m0 ad cI cZ σ) → va_S A s.heap H locs → ∀ ls : Array Slot, lv_has ls 2 [(0, .ref m0), (1, .int x1)] → W p l e (headSpec (ws_ yX5_keeps cX5_keeps 2 none) ({ frames := 0, cells := 0, slots := 0, locals := 0 })).room s m ([.ref m0] : List Value).toArray below meth c H locs 0 0 (MQ below (va_Qv (fun u => (0, u) = out) (tw_B dC dI cI cZ m0 ad) A) ([.ref m0] : List Value).toArray s 0 0 A) (F0 m 52 ls [])) := by
    intro n
    induction n with
    | zero => exact ⟨(fun _ _ h => nomatch h), (fun _ _ h => nomatch h)⟩
    | succ n ih =>
      obtain ⟨lp1, lp2⟩ := ih
      refine ⟨?_, ?_⟩
      · intro σ x1 hF H locs hP hD hS ls hl
        replace hF : F_keeps_1 (F_keeps_r n) n σ x1 = some out := hF
        unfold F_keeps_1 at hF
        refine lv_iload_n hx hb dX5_keeps_11 rfl (lv_at hl 1 rfl) ?_
        refine lv_sipush (v := 1134) hx hb dX5_keeps_12 (by decide) ?_
        refine lv_icmp_ge (tgt := 40) hx hb dX5_keeps_15 (by decide) (fun c2 => ?_) (fun c2 => ?_)
        · replace hF := it_t c2 hF
          refine lv_aload_n hx hb dX5_keeps_40 rfl (lv_at hl 0 rfl) ?_
          refine lv_dup hx hb dX5_keeps_41 rfl ?_
          refine va_get (D := (dC, dI)) (ci := 0) (v := .int ((σ).1 5)) (C := RX5) (T := TX5) (N := 28) hx hb hts in_X5 hown hK hP 0 tw_g rfl 5 (by decide) (hts _ q1991) (fun _ h9 => h9) rfl dX5_keeps_42 ?_
          refine lv_iconst (v := 1) hx hb dX5_keeps_45 (by decide) ?_
          refine lv_isub hx hb dX5_keeps_46 ?_
          refine va_put (D := (dC, dI)) (ci := 0) (v := .int (((σ).1 5) - 1)) (ty := .int) (C := RX5) (T := TX5) (N := 28) hx hb hts in_X5 tyX5 tyX5_ok nmX5 hown hK hP hD hS 0 tw_g rfl 5 (by decide) (hts _ q1991) (fun _ h9 => h9) rfl (tyX5_ok 5 (by decide)) rfl rfl (Nat.le_of_ble_eq_true rfl) dX5_keeps_47 (fun H locs hP hD hS => ?_)
          rw [tw_p5] at hP hD
          refine lv_iconst (v := 0) hx hb dX5_keeps_50 (by decide) ?_
          refine lv_istore_n (lv' := [(1, .int 0), (0, .ref m0)]) hx hb dX5_keeps_51 rfl hl (by decide) rfl (fun ls hl => ?_)
          exact lp2 (tw_sf σ 5 (((σ).1 5) - 1)) 0 hF _ _ hP hD hS ls (lv_sub hl [1, 0] rfl)
        · replace hF := it_f c2 hF
          refine lv_aload_n hx hb dX5_keeps_18 rfl (lv_at hl 0 rfl) ?_
          refine va_get (D := (dC, dI)) (ci := 0) (v := .ref (ad 2)) (C := RX5) (T := TX5) (N := 28) hx hb hts in_X5 hown hK hP 0 tw_g rfl 2 (by decide) (hts _ q1988) (fun _ h9 => h9) rfl dX5_keeps_19 ?_
          refine lv_iload_n hx hb dX5_keeps_22 rfl (lv_at hl 1 rfl) ?_
          refine lv_aload_n hx hb dX5_keeps_23 rfl (lv_at hl 0 rfl) ?_
          refine va_get (D := (dC, dI)) (ci := 0) (v := .ref (ad 2)) (C := RX5) (T := TX5) (N := 28) hx hb hts in_X5 hown hK hP 0 tw_g rfl 2 (by decide) (hts _ q1988) (fun _ h9 => h9) rfl dX5_keeps_24 ?_
          refine lv_iload_n hx hb dX5_keeps_27 rfl (lv_at hl 1 rfl) ?_
          refine lv_sipush (v := 162) hx hb dX5_keeps_28 (by decide) ?_
          refine lv_iadd hx hb dX5_keeps_31 ?_
          obtain ⟨g3, hF⟩ := gd_s hF
          refine va_iald hx hb hK hP 3 0 tw_e2 rfl (inB_in g3) dX5_keeps_32 ?_
          obtain ⟨g4, hF⟩ := gd_s hF
          refine va_iast hx hb hK hP hD hS 3 0 tw_e2 rfl (x := ((σ).2 2 ((x1 + 162)).toNatClampNeg)) (inB_in g4) dX5_keeps_33 (fun H locs hP hD hS => ?_)
          rw [tw_s2] at hP hD
          refine lv_iinc (v := (x1 + 1)) (lv' := [(1, .int (x1 + 1)), (0, .ref m0)]) hx hb dX5_keeps_34 hl (k := 1) rfl rfl (by decide) rfl (fun ls hl => ?_)
          refine lv_goto (tgt := 11) hx hb dX5_keeps_37 (by decide) ?_
          exact lp1 (tw_sa σ 2 (x1).toNatClampNeg ((σ).2 2 ((x1 + 162)).toNatClampNeg)) (x1 + 1) hF _ _ hP hD hS ls (lv_sub hl [1, 0] rfl)
      · intro σ x1 hF H locs hP hD hS ls hl
        replace hF : F_keeps_2 (F_keeps_r n) n σ x1 = some out := hF
        unfold F_keeps_2 at hF
        refine lv_iload_n hx hb dX5_keeps_52 rfl (lv_at hl 1 rfl) ?_
        refine lv_sipush (v := 162) hx hb dX5_keeps_53 (by decide) ?_
        refine lv_icmp_ge (tgt := 86) hx hb dX5_keeps_56 (by decide) (fun c5 => ?_) (fun c5 => ?_)
        · replace hF := it_t c5 hF
          refine lv_aload_n hx hb dX5_keeps_86 rfl (lv_at hl 0 rfl) ?_
          refine lv_dup hx hb dX5_keeps_87 rfl ?_
          refine va_get (D := (dC, dI)) (ci := 0) (v := .int ((σ).1 5)) (C := RX5) (T := TX5) (N := 28) hx hb hts in_X5 hown hK hP 0 tw_g rfl 5 (by decide) (hts _ q1991) (fun _ h9 => h9) rfl dX5_keeps_88 ?_
          refine lv_iconst (v := 1) hx hb dX5_keeps_91 (by decide) ?_
          refine lv_iadd hx hb dX5_keeps_92 ?_
          refine va_put (D := (dC, dI)) (ci := 0) (v := .int (((σ).1 5) + 1)) (ty := .int) (C := RX5) (T := TX5) (N := 28) hx hb hts in_X5 tyX5 tyX5_ok nmX5 hown hK hP hD hS 0 tw_g rfl 5 (by decide) (hts _ q1991) (fun _ h9 => h9) rfl (tyX5_ok 5 (by decide)) rfl rfl (Nat.le_of_ble_eq_true rfl) dX5_keeps_93 (fun H locs hP hD hS => ?_)
          rw [tw_p5] at hP hD
          exact W.vret hx hb hr (fun t ht hW => ⟨⟨(tw_sf σ 5 (((σ).1 5) + 1)), rfl, Option.some.inj hF, by rw [ht]; exact hP, va_K.moved hW.alike hK⟩, hS.F ht⟩) hS.2.2 dX5_keeps_96
        · replace hF := it_f c5 hF
          refine lv_aload_n hx hb dX5_keeps_59 rfl (lv_at hl 0 rfl) ?_
          refine va_get (D := (dC, dI)) (ci := 0) (v := .ref (ad 2)) (C := RX5) (T := TX5) (N := 28) hx hb hts in_X5 hown hK hP 0 tw_g rfl 2 (by decide) (hts _ q1988) (fun _ h9 => h9) rfl dX5_keeps_60 ?_
          refine lv_sipush (v := 162) hx hb dX5_keeps_63 (by decide) ?_
          refine lv_aload_n hx hb dX5_keeps_66 rfl (lv_at hl 0 rfl) ?_
          refine va_get (D := (dC, dI)) (ci := 0) (v := .int ((σ).1 5)) (C := RX5) (T := TX5) (N := 28) hx hb hts in_X5 hown hK hP 0 tw_g rfl 5 (by decide) (hts _ q1991) (fun _ h9 => h9) rfl dX5_keeps_67 ?_
          refine lv_imul hx hb dX5_keeps_70 ?_
          refine lv_iload_n hx hb dX5_keeps_71 rfl (lv_at hl 1 rfl) ?_
          refine lv_iadd hx hb dX5_keeps_72 ?_
          refine lv_aload_n hx hb dX5_keeps_73 rfl (lv_at hl 0 rfl) ?_
          refine va_get (D := (dC, dI)) (ci := 0) (v := .ref (ad 0)) (C := RX5) (T := TX5) (N := 28) hx hb hts in_X5 hown hK hP 0 tw_g rfl 0 (by decide) (hts _ q1986) (fun _ h9 => h9) rfl dX5_keeps_74 ?_
          refine lv_iload_n hx hb dX5_keeps_77 rfl (lv_at hl 1 rfl) ?_
          obtain ⟨g6, hF⟩ := gd_s hF
          refine va_iald hx hb hK hP 1 0 tw_e0 rfl (inB_in g6) dX5_keeps_78 ?_
          obtain ⟨g7, hF⟩ := gd_s hF
          refine va_iast hx hb hK hP hD hS 3 0 tw_e2 rfl (x := ((σ).2 0 (x1).toNatClampNeg)) (inB_in g7) dX5_keeps_79 (fun H locs hP hD hS => ?_)
          rw [tw_s2] at hP hD
          refine lv_iinc (v := (x1 + 1)) (lv' := [(1, .int (x1 + 1)), (0, .ref m0)]) hx hb dX5_keeps_80 hl (k := 1) rfl rfl (by decide) rfl (fun ls hl => ?_)
          refine lv_goto (tgt := 52) hx hb dX5_keeps_83 (by decide) ?_
          exact lp2 (tw_sa σ 2 (((162 * ((σ).1 5)) + x1)).toNatClampNeg ((σ).2 0 (x1).toNatClampNeg)) (x1 + 1) hF _ _ hP hD hS ls (lv_sub hl [1, 0] rfl)
  obtain ⟨lp1, lp2⟩ := loop n
  unfold F_keeps F_keeps_0 at hF
  refine lv_aload_n hx hb dX5_keeps_0 rfl (lv_at hl 0 rfl) ?_
  refine va_get (D := (dC, dI)) (ci := 0) (v := .int ((σ).1 5)) (C := RX5) (T := TX5) (N := 28) hx hb hts in_X5 hown hK hP 0 tw_g rfl 5 (by decide) (hts _ q1991) (fun _ h9 => h9) rfl dX5_keeps_1 ?_
  refine lv_bipush (v := 8) hx hb dX5_keeps_4 (by decide) ?_
  refine lv_icmp_ne (tgt := 50) hx hb dX5_keeps_6 (by decide) (fun c1 => ?_) (fun c1 => ?_)
  · replace hF := it_f c1 hF
    refine lv_iconst (v := 0) hx hb dX5_keeps_50 (by decide) ?_
    refine lv_istore_n (lv' := [(1, .int 0), (0, .ref m0)]) hx hb dX5_keeps_51 rfl hl (by decide) rfl (fun ls hl => ?_)
    exact lp2 σ 0 hF _ _ hP hD hS ls (lv_sub hl [1, 0] rfl)
  · replace hF := it_t c1 hF
    refine lv_iconst (v := 0) hx hb dX5_keeps_9 (by decide) ?_
    refine lv_istore_n (lv' := [(1, .int 0), (0, .ref m0)]) hx hb dX5_keeps_10 rfl hl (by decide) rfl (fun ls hl => ?_)
    exact lp1 σ 0 hF _ _ hP hD hS ls (lv_sub hl [1, 0] rfl)

def F_undo (n : Nat) (σ : Tw) : Option (Int32 × Tw) := if ((σ).1 5) = 0 then if (((tw_sf σ 6 1)).1 6) ≤ 0 then bnd (F_becomes_kept n (tw_sf (tw_sf σ 6 1) 5 ((((tw_sf σ 6 1)).1 5) - 1)) (162 * (((tw_sf (tw_sf σ 6 1) 5 ((((tw_sf σ 6 1)).1 5) - 1))).1 5))) (fun r5 u5 => some (((u5).1 5), u5)) else some (0, (tw_sf σ 6 1)) else if (((tw_sf σ 6 0)).1 6) ≤ 0 then bnd (F_becomes_kept n (tw_sf (tw_sf σ 6 0) 5 ((((tw_sf σ 6 0)).1 5) - 1)) (162 * (((tw_sf (tw_sf σ 6 0) 5 ((((tw_sf σ 6 0)).1 5) - 1))).1 5))) (fun r3 u3 => some (((u3).1 5), u3)) else some (0, (tw_sf σ 6 0))
set_option maxHeartbeats 4000000 in
set_option maxRecDepth 100000 in
theorem mt_undo (l : Launch) (dC : Nat → ClassId) (dI : Nat → Nat → Nat) (cI cZ : ClassId) (m0 : Nat) (ad : Nat → Nat) (sz : Nat) (σ : Tw) (n : Nat)  (out : Int32 × Tw) (hF : F_undo n σ  = some out) : Met l yX5_undo (ws_ yX5_undo cX5_undo 1 (some .int)) ({ frames := 1, cells := 0, slots := 0, locals := 23 }) (va_Pc [.ref m0] (tw_Pre dC dI cI cZ m0 ad sz σ)) (va_Qi (fun r u => (r, u) = out) (tw_B dC dI cI cZ m0 ad) (tw_A m0 ad sz)) 0 0 (tw_A m0 ad sz) := by
  refine Met.ofW (cc := cX5_undo) (maxL := 1) (ret := (some .int)) (by decide +kernel) rfl ?_
  intro p e s m args below meth c s₁ B hml hv
  obtain ⟨rfl, hsz, hP, hK, hD0⟩ := hv
  have hx := B.exec
  have hb := B.bytes
  have hr := B.returns
  have hts := atoms_spec (ws := (ws_ yX5_undo cX5_undo 1 (some .int))) B.pre
  have hts : ∀ w ∈ lw_all, w.before _ s = true := fun w h => hts w (List.mem_cons_of_mem _ h)
  have hown : s.vm.findClass RX5 = some m.cls := findClass_of_methodNamed B.named
  have hlocks := B.notSynchronized
  subst hsz
  have hD := tw_Ds (z := s.heap.size) hD0
  have hAA := fun z (h : s.heap.size ≤ z) => tw_Am (m0 := m0) (ad := ad) h
  generalize hAe : tw_A m0 ad s.heap.size = A at hD hAA ⊢
  have hS : va_S A s.heap s.heap [] := va_S.rf
  have hP : va_P (dC, dI) vwCl (tw_ws m0 ad cI cZ σ) s.heap := hP
  have hl := lv_entry ([.ref m0]) (n := 1) (Nat.le_of_ble_eq_true rfl)
  rw [lg_entry_eq]
  generalize (lg_sl ([.ref m0]) ++ List.replicate (1 - (lg_sl ([.ref m0])).length) Slot.unset).toArray = ls at hl ⊢
  have hl : lv_has ls 1 [(0, .ref m0)] := hl
  unfold F_undo at hF
  refine lv_aload_n hx hb dX5_undo_0 rfl (lv_at hl 0 rfl) ?_
  refine lv_aload_n hx hb dX5_undo_1 rfl (lv_at hl 0 rfl) ?_
  refine va_get (D := (dC, dI)) (ci := 0) (v := .int ((σ).1 5)) (C := RX5) (T := TX5) (N := 28) hx hb hts in_X5 hown hK hP 0 tw_g rfl 5 (by decide) (hts _ q1991) (fun _ h9 => h9) rfl dX5_undo_2 ?_
  refine lv_if_ne (tgt := 12) hx hb dX5_undo_5 (by decide) (fun c1 => ?_) (fun c1 => ?_)
  · replace hF := it_f c1 hF
    refine lv_iconst (v := 0) hx hb dX5_undo_12 (by decide) ?_
    refine va_put (D := (dC, dI)) (ci := 0) (v := .int 0) (ty := .int) (C := RX5) (T := TX5) (N := 28) hx hb hts in_X5 tyX5 tyX5_ok nmX5 hown hK hP hD hS 0 tw_g rfl 6 (by decide) (hts _ q1992) (fun _ h9 => h9) rfl (tyX5_ok 6 (by decide)) rfl rfl (Nat.le_of_ble_eq_true rfl) dX5_undo_13 (fun H locs hP hD hS => ?_)
    rw [tw_p6] at hP hD
    refine lv_aload_n hx hb dX5_undo_16 rfl (lv_at hl 0 rfl) ?_
    refine va_get (D := (dC, dI)) (ci := 0) (v := .int (((tw_sf σ 6 0)).1 6)) (C := RX5) (T := TX5) (N := 28) hx hb hts in_X5 hown hK hP 0 tw_g rfl 6 (by decide) (hts _ q1992) (fun _ h9 => h9) rfl dX5_undo_17 ?_
    refine lv_if_le (tgt := 25) hx hb dX5_undo_20 (by decide) (fun c2 => ?_) (fun c2 => ?_)
    · replace hF := it_t c2 hF
      refine lv_aload_n hx hb dX5_undo_25 rfl (lv_at hl 0 rfl) ?_
      refine lv_dup hx hb dX5_undo_26 rfl ?_
      refine va_get (D := (dC, dI)) (ci := 0) (v := .int (((tw_sf σ 6 0)).1 5)) (C := RX5) (T := TX5) (N := 28) hx hb hts in_X5 hown hK hP 0 tw_g rfl 5 (by decide) (hts _ q1991) (fun _ h9 => h9) rfl dX5_undo_27 ?_
      refine lv_iconst (v := 1) hx hb dX5_undo_30 (by decide) ?_
      refine lv_isub hx hb dX5_undo_31 ?_
      refine va_put (D := (dC, dI)) (ci := 0) (v := .int ((((tw_sf σ 6 0)).1 5) - 1)) (ty := .int) (C := RX5) (T := TX5) (N := 28) hx hb hts in_X5 tyX5 tyX5_ok nmX5 hown hK hP hD hS 0 tw_g rfl 5 (by decide) (hts _ q1991) (fun _ h9 => h9) rfl (tyX5_ok 5 (by decide)) rfl rfl (Nat.le_of_ble_eq_true rfl) dX5_undo_32 (fun H locs hP hD hS => ?_)
      rw [tw_p5] at hP hD
      refine lv_aload_n hx hb dX5_undo_35 rfl (lv_at hl 0 rfl) ?_
      refine lv_aload_n hx hb dX5_undo_36 rfl (lv_at hl 0 rfl) ?_
      refine va_get (D := (dC, dI)) (ci := 0) (v := .ref (ad 2)) (C := RX5) (T := TX5) (N := 28) hx hb hts in_X5 hown hK hP 0 tw_g rfl 2 (by decide) (hts _ q1988) (fun _ h9 => h9) rfl dX5_undo_37 ?_
      refine lv_sipush (v := 162) hx hb dX5_undo_40 (by decide) ?_
      refine lv_aload_n hx hb dX5_undo_43 rfl (lv_at hl 0 rfl) ?_
      refine va_get (D := (dC, dI)) (ci := 0) (v := .int (((tw_sf (tw_sf σ 6 0) 5 ((((tw_sf σ 6 0)).1 5) - 1))).1 5)) (C := RX5) (T := TX5) (N := 28) hx hb hts in_X5 hown hK hP 0 tw_g rfl 5 (by decide) (hts _ q1991) (fun _ h9 => h9) rfl dX5_undo_44 ?_
      refine lv_imul hx hb dX5_undo_47 ?_
      obtain ⟨r3, u3, e3, hF⟩ := bnd_s hF
      refine tw_callv (va_runV (As := [.ref (ad 2), .int (162 * (((tw_sf (tw_sf σ 6 0) 5 ((((tw_sf σ 6 0)).1 5) - 1))).1 5))]) (rest := []) ⟨hx, hb, hml, hown, hts⟩ (mt_becomes_kept l dC dI cI cZ m0 ad H.size (tw_sf (tw_sf σ 6 0) 5 ((((tw_sf σ 6 0)).1 5) - 1)) n  (162 * (((tw_sf (tw_sf σ 6 0) 5 ((((tw_sf σ 6 0)).1 5) - 1))).1 5)) _ e3) (cwV 2 hts (lw_V q1982 q1984 qs45 q125 q1985) rfl rfl rfl (by decide +kernel) ⟨Nat.le_of_ble_eq_true rfl, Nat.le_of_ble_eq_true rfl⟩) (tw_preV hK hP hD _) rfl rfl hl.1 rfl (lv_room (Nat.le_of_ble_eq_true rfl)) dX5_undo_48 ⟨Nat.le_of_ble_eq_true rfl, Nat.le_of_ble_eq_true rfl⟩) hS hD hAA (fun uu H locs hw hP hD hS => ?_)
      obtain rfl : u3 = uu := (congrArg Prod.snd hw).symm
      refine lv_aload_n hx hb dX5_undo_51 rfl (lv_at hl 0 rfl) ?_
      refine va_get (D := (dC, dI)) (ci := 0) (v := .int ((u3).1 5)) (C := RX5) (T := TX5) (N := 28) hx hb hts in_X5 hown hK hP 0 tw_g rfl 5 (by decide) (hts _ q1991) (fun _ h9 => h9) rfl dX5_undo_52 ?_
      exact W.iret (v := ((u3).1 5)) hx hb hr (fun t ht hW => ⟨⟨((u3).1 5), u3, rfl, Option.some.inj hF, by rw [ht]; exact hP, va_K.moved hW.alike hK⟩, hS.F ht⟩) hS.2.2 dX5_undo_55
    · replace hF := it_f c2 hF
      refine lv_iconst (v := 0) hx hb dX5_undo_23 (by decide) ?_
      exact W.iret (v := 0) hx hb hr (fun t ht hW => ⟨⟨0, (tw_sf σ 6 0), rfl, Option.some.inj hF, by rw [ht]; exact hP, va_K.moved hW.alike hK⟩, hS.F ht⟩) hS.2.2 dX5_undo_24
  · replace hF := it_t c1 hF
    refine lv_iconst (v := 1) hx hb dX5_undo_8 (by decide) ?_
    refine lv_goto (tgt := 13) hx hb dX5_undo_9 (by decide) ?_
    refine va_put (D := (dC, dI)) (ci := 0) (v := .int 1) (ty := .int) (C := RX5) (T := TX5) (N := 28) hx hb hts in_X5 tyX5 tyX5_ok nmX5 hown hK hP hD hS 0 tw_g rfl 6 (by decide) (hts _ q1992) (fun _ h9 => h9) rfl (tyX5_ok 6 (by decide)) rfl rfl (Nat.le_of_ble_eq_true rfl) dX5_undo_13 (fun H locs hP hD hS => ?_)
    rw [tw_p6] at hP hD
    refine lv_aload_n hx hb dX5_undo_16 rfl (lv_at hl 0 rfl) ?_
    refine va_get (D := (dC, dI)) (ci := 0) (v := .int (((tw_sf σ 6 1)).1 6)) (C := RX5) (T := TX5) (N := 28) hx hb hts in_X5 hown hK hP 0 tw_g rfl 6 (by decide) (hts _ q1992) (fun _ h9 => h9) rfl dX5_undo_17 ?_
    refine lv_if_le (tgt := 25) hx hb dX5_undo_20 (by decide) (fun c4 => ?_) (fun c4 => ?_)
    · replace hF := it_t c4 hF
      refine lv_aload_n hx hb dX5_undo_25 rfl (lv_at hl 0 rfl) ?_
      refine lv_dup hx hb dX5_undo_26 rfl ?_
      refine va_get (D := (dC, dI)) (ci := 0) (v := .int (((tw_sf σ 6 1)).1 5)) (C := RX5) (T := TX5) (N := 28) hx hb hts in_X5 hown hK hP 0 tw_g rfl 5 (by decide) (hts _ q1991) (fun _ h9 => h9) rfl dX5_undo_27 ?_
      refine lv_iconst (v := 1) hx hb dX5_undo_30 (by decide) ?_
      refine lv_isub hx hb dX5_undo_31 ?_
      refine va_put (D := (dC, dI)) (ci := 0) (v := .int ((((tw_sf σ 6 1)).1 5) - 1)) (ty := .int) (C := RX5) (T := TX5) (N := 28) hx hb hts in_X5 tyX5 tyX5_ok nmX5 hown hK hP hD hS 0 tw_g rfl 5 (by decide) (hts _ q1991) (fun _ h9 => h9) rfl (tyX5_ok 5 (by decide)) rfl rfl (Nat.le_of_ble_eq_true rfl) dX5_undo_32 (fun H locs hP hD hS => ?_)
      rw [tw_p5] at hP hD
      refine lv_aload_n hx hb dX5_undo_35 rfl (lv_at hl 0 rfl) ?_
      refine lv_aload_n hx hb dX5_undo_36 rfl (lv_at hl 0 rfl) ?_
      refine va_get (D := (dC, dI)) (ci := 0) (v := .ref (ad 2)) (C := RX5) (T := TX5) (N := 28) hx hb hts in_X5 hown hK hP 0 tw_g rfl 2 (by decide) (hts _ q1988) (fun _ h9 => h9) rfl dX5_undo_37 ?_
      refine lv_sipush (v := 162) hx hb dX5_undo_40 (by decide) ?_
      refine lv_aload_n hx hb dX5_undo_43 rfl (lv_at hl 0 rfl) ?_
      refine va_get (D := (dC, dI)) (ci := 0) (v := .int (((tw_sf (tw_sf σ 6 1) 5 ((((tw_sf σ 6 1)).1 5) - 1))).1 5)) (C := RX5) (T := TX5) (N := 28) hx hb hts in_X5 hown hK hP 0 tw_g rfl 5 (by decide) (hts _ q1991) (fun _ h9 => h9) rfl dX5_undo_44 ?_
      refine lv_imul hx hb dX5_undo_47 ?_
      obtain ⟨r5, u5, e5, hF⟩ := bnd_s hF
      refine tw_callv (va_runV (As := [.ref (ad 2), .int (162 * (((tw_sf (tw_sf σ 6 1) 5 ((((tw_sf σ 6 1)).1 5) - 1))).1 5))]) (rest := []) ⟨hx, hb, hml, hown, hts⟩ (mt_becomes_kept l dC dI cI cZ m0 ad H.size (tw_sf (tw_sf σ 6 1) 5 ((((tw_sf σ 6 1)).1 5) - 1)) n  (162 * (((tw_sf (tw_sf σ 6 1) 5 ((((tw_sf σ 6 1)).1 5) - 1))).1 5)) _ e5) (cwV 2 hts (lw_V q1982 q1984 qs45 q125 q1985) rfl rfl rfl (by decide +kernel) ⟨Nat.le_of_ble_eq_true rfl, Nat.le_of_ble_eq_true rfl⟩) (tw_preV hK hP hD _) rfl rfl hl.1 rfl (lv_room (Nat.le_of_ble_eq_true rfl)) dX5_undo_48 ⟨Nat.le_of_ble_eq_true rfl, Nat.le_of_ble_eq_true rfl⟩) hS hD hAA (fun uu H locs hw hP hD hS => ?_)
      obtain rfl : u5 = uu := (congrArg Prod.snd hw).symm
      refine lv_aload_n hx hb dX5_undo_51 rfl (lv_at hl 0 rfl) ?_
      refine va_get (D := (dC, dI)) (ci := 0) (v := .int ((u5).1 5)) (C := RX5) (T := TX5) (N := 28) hx hb hts in_X5 hown hK hP 0 tw_g rfl 5 (by decide) (hts _ q1991) (fun _ h9 => h9) rfl dX5_undo_52 ?_
      exact W.iret (v := ((u5).1 5)) hx hb hr (fun t ht hW => ⟨⟨((u5).1 5), u5, rfl, Option.some.inj hF, by rw [ht]; exact hP, va_K.moved hW.alike hK⟩, hS.F ht⟩) hS.2.2 dX5_undo_55
    · replace hF := it_f c4 hF
      refine lv_iconst (v := 0) hx hb dX5_undo_23 (by decide) ?_
      exact W.iret (v := 0) hx hb hr (fun t ht hW => ⟨⟨0, (tw_sf σ 6 1), rfl, Option.some.inj hF, by rw [ht]; exact hP, va_K.moved hW.alike hK⟩, hS.F ht⟩) hS.2.2 dX5_undo_24

def F_save_1 (R : Nat → Tw → Int32 → Int32 → Option (Int32 × Tw)) (n : Nat) (σ : Tw) (x1 : Int32) (x2 : Int32) : Option (Int32 × Tw) := if 162 ≤ x2 then gd (inB 5 162) (some (((σ).2 0 (5 : Int32).toNatClampNeg), σ)) else gd (inB x2 162) (gd (inB ((162 * x1) + x2) 324) (R 1 (tw_sa σ 3 (((162 * x1) + x2)).toNatClampNeg ((σ).2 0 (x2).toNatClampNeg)) x1 (x2 + 1)))
def F_save_r : Nat → Nat → Tw → Int32 → Int32 → Option (Int32 × Tw)
  | 0 => fun _ _ _ _ => none
  | n + 1 => fun k => match k with  | _ => F_save_1 (F_save_r n) n
def F_save_0 (R : Nat → Tw → Int32 → Int32 → Option (Int32 × Tw)) (n : Nat) (σ : Tw) (p1 : Int32) : Option (Int32 × Tw) := bnd (F_isIn σ p1 0 1) (fun r1 u1 => if r1 = 0 then if (((tw_sf u1 6 1)).1 6) ≤ 0 then gd (inB p1 2) (R 1 (tw_sa (tw_sf u1 6 1) 4 (p1).toNatClampNeg (vp_nar .boolean 1)) p1 0) else some (0, (tw_sf u1 6 1)) else if (((tw_sf u1 6 0)).1 6) ≤ 0 then gd (inB p1 2) (R 1 (tw_sa (tw_sf u1 6 0) 4 (p1).toNatClampNeg (vp_nar .boolean 1)) p1 0) else some (0, (tw_sf u1 6 0)))
def F_save (n : Nat) (σ : Tw) (p1 : Int32) : Option (Int32 × Tw) := F_save_0 (F_save_r n) n σ p1
set_option maxHeartbeats 4000000 in
set_option maxRecDepth 100000 in
theorem mt_save (l : Launch) (dC : Nat → ClassId) (dI : Nat → Nat → Nat) (cI cZ : ClassId) (m0 : Nat) (ad : Nat → Nat) (sz : Nat) (σ : Tw) (n : Nat)  (p1 : Int32) (out : Int32 × Tw) (hF : F_save n σ p1 = some out) : Met l yX5_save (ws_ yX5_save cX5_save 3 (some .int)) ({ frames := 1, cells := 0, slots := 0, locals := 22 }) (va_Pc [.ref m0, .int p1] (tw_Pre dC dI cI cZ m0 ad sz σ)) (va_Qi (fun r u => (r, u) = out) (tw_B dC dI cI cZ m0 ad) (tw_A m0 ad sz)) 0 0 (tw_A m0 ad sz) := by
  refine Met.ofW (cc := cX5_save) (maxL := 3) (ret := (some .int)) (by decide +kernel) rfl ?_
  intro p e s m args below meth c s₁ B hml hv
  obtain ⟨rfl, hsz, hP, hK, hD0⟩ := hv
  have hx := B.exec
  have hb := B.bytes
  have hr := B.returns
  have hts := atoms_spec (ws := (ws_ yX5_save cX5_save 3 (some .int))) B.pre
  have hts : ∀ w ∈ lw_all, w.before _ s = true := fun w h => hts w (List.mem_cons_of_mem _ h)
  have hown : s.vm.findClass RX5 = some m.cls := findClass_of_methodNamed B.named
  have hlocks := B.notSynchronized
  subst hsz
  have hD := tw_Ds (z := s.heap.size) hD0
  have hAA := fun z (h : s.heap.size ≤ z) => tw_Am (m0 := m0) (ad := ad) h
  generalize hAe : tw_A m0 ad s.heap.size = A at hD hAA ⊢
  have hS : va_S A s.heap s.heap [] := va_S.rf
  have hP : va_P (dC, dI) vwCl (tw_ws m0 ad cI cZ σ) s.heap := hP
  have hl := lv_entry ([.ref m0, .int p1]) (n := 3) (Nat.le_of_ble_eq_true rfl)
  rw [lg_entry_eq]
  generalize (lg_sl ([.ref m0, .int p1]) ++ List.replicate (3 - (lg_sl ([.ref m0, .int p1])).length) Slot.unset).toArray = ls at hl ⊢
  have hl : lv_has ls 3 [(0, .ref m0), (1, .int p1)] := hl
  have loop : ∀ n : Nat, (∀ (σ : Tw) (x1 x2 : Int32), F_save_r n 1 σ x1 x2 = some out → ∀ (H : Heap) (locs : List Loc), va_P (dC, dI) vwCl (tw_ws m0 ad cI cZ σ) H → va_D A (tw_ws m0 ad cI cZ σ) → va_S A s.heap H locs → ∀ ls : Array Slot, lv_has ls 3 [(0, .ref m0), (1, .int x1), (2, .int x2)] → W p l e (headSpec (ws_ yX5_save cX5_save 3 (some .int)) ({ frames := 1, cells := 0, slots := 0, locals := 22 })).room s m ([.ref m0, .int p1] : List Value).toArray below meth c H locs 0 0 (MQ below (va_Qi (fun r u => (r, u) = out) (tw_B dC dI cI cZ m0 ad) A) ([.ref m0, .int p1] : List Value).toArray s 0 0 A) (F0 m 36 ls [])) := by
    intro n
    induction n with
    | zero => exact (fun _ _ _ h => nomatch h)
    | succ n ih =>
      have lp1 := ih
      intro σ x1 x2 hF H locs hP hD hS ls hl
      replace hF : F_save_1 (F_save_r n) n σ x1 x2 = some out := hF
      unfold F_save_1 at hF
      refine lv_iload_n hx hb dX5_save_36 rfl (lv_at hl 2 rfl) ?_
      refine lv_sipush (v := 162) hx hb dX5_save_37 (by decide) ?_
      refine lv_icmp_ge (tgt := 67) hx hb dX5_save_40 (by decide) (fun c7 => ?_) (fun c7 => ?_)
      · replace hF := it_t c7 hF
        refine lv_aload_n hx hb dX5_save_67 rfl (lv_at hl 0 rfl) ?_
        refine va_get (D := (dC, dI)) (ci := 0) (v := .ref (ad 0)) (C := RX5) (T := TX5) (N := 28) hx hb hts in_X5 hown hK hP 0 tw_g rfl 0 (by decide) (hts _ q1986) (fun _ h9 => h9) rfl dX5_save_68 ?_
        refine lv_iconst (v := 5) hx hb dX5_save_71 (by decide) ?_
        obtain ⟨g8, hF⟩ := gd_s hF
        refine va_iald hx hb hK hP 1 0 tw_e0 rfl (inB_in g8) dX5_save_72 ?_
        exact W.iret (v := ((σ).2 0 (5 : Int32).toNatClampNeg)) hx hb hr (fun t ht hW => ⟨⟨((σ).2 0 (5 : Int32).toNatClampNeg), σ, rfl, Option.some.inj hF, by rw [ht]; exact hP, va_K.moved hW.alike hK⟩, hS.F ht⟩) hS.2.2 dX5_save_73
      · replace hF := it_f c7 hF
        refine lv_aload_n hx hb dX5_save_43 rfl (lv_at hl 0 rfl) ?_
        refine va_get (D := (dC, dI)) (ci := 0) (v := .ref (ad 3)) (C := RX5) (T := TX5) (N := 28) hx hb hts in_X5 hown hK hP 0 tw_g rfl 3 (by decide) (hts _ q1989) (fun _ h9 => h9) rfl dX5_save_44 ?_
        refine lv_sipush (v := 162) hx hb dX5_save_47 (by decide) ?_
        refine lv_iload_n hx hb dX5_save_50 rfl (lv_at hl 1 rfl) ?_
        refine lv_imul hx hb dX5_save_51 ?_
        refine lv_iload_n hx hb dX5_save_52 rfl (lv_at hl 2 rfl) ?_
        refine lv_iadd hx hb dX5_save_53 ?_
        refine lv_aload_n hx hb dX5_save_54 rfl (lv_at hl 0 rfl) ?_
        refine va_get (D := (dC, dI)) (ci := 0) (v := .ref (ad 0)) (C := RX5) (T := TX5) (N := 28) hx hb hts in_X5 hown hK hP 0 tw_g rfl 0 (by decide) (hts _ q1986) (fun _ h9 => h9) rfl dX5_save_55 ?_
        refine lv_iload_n hx hb dX5_save_58 rfl (lv_at hl 2 rfl) ?_
        obtain ⟨g9, hF⟩ := gd_s hF
        refine va_iald hx hb hK hP 1 0 tw_e0 rfl (inB_in g9) dX5_save_59 ?_
        obtain ⟨g10, hF⟩ := gd_s hF
        refine va_iast hx hb hK hP hD hS 4 0 tw_e3 rfl (x := ((σ).2 0 (x2).toNatClampNeg)) (inB_in g10) dX5_save_60 (fun H locs hP hD hS => ?_)
        rw [tw_s3] at hP hD
        refine lv_iinc (v := (x2 + 1)) (lv' := [(2, .int (x2 + 1)), (0, .ref m0), (1, .int x1)]) hx hb dX5_save_61 hl (k := 2) rfl rfl (by decide) rfl (fun ls hl => ?_)
        refine lv_goto (tgt := 36) hx hb dX5_save_64 (by decide) ?_
        exact lp1 (tw_sa σ 3 (((162 * x1) + x2)).toNatClampNeg ((σ).2 0 (x2).toNatClampNeg)) x1 (x2 + 1) hF _ _ hP hD hS ls (lv_sub hl [1, 2, 0] rfl)
  have lp1 := loop n
  unfold F_save F_save_0 at hF
  refine lv_aload_n hx hb dX5_save_0 rfl (lv_at hl 0 rfl) ?_
  refine lv_iload_n hx hb dX5_save_1 rfl (lv_at hl 1 rfl) ?_
  refine lv_iconst (v := 0) hx hb dX5_save_2 (by decide) ?_
  refine lv_iconst (v := 1) hx hb dX5_save_3 (by decide) ?_
  obtain ⟨r1, u1, e1, hF⟩ := bnd_s hF
  refine tw_calli (va_runS (As := [.int p1, .int 0, .int 1]) (rest := [.ref m0]) ⟨hx, hb, hml, hown, hts⟩ (mt_isIn l dC dI cI cZ m0 ad s.heap.size σ  p1 0 1 _ e1) (va_cwS 3 hts (lw_S q2084 q2085 q125 q2086) rfl rfl rfl (by decide +kernel) ⟨Nat.le_of_ble_eq_true rfl, Nat.le_of_ble_eq_true rfl⟩) (tw_preS hK hP hD _) rfl rfl hl.1 rfl (lv_room (Nat.le_of_ble_eq_true rfl)) dX5_save_4 ⟨Nat.le_of_ble_eq_true rfl, Nat.le_of_ble_eq_true rfl⟩) hS hD hAA (fun rr uu H locs hw hP hD hS => ?_)
  obtain rfl : r1 = rr := (congrArg Prod.fst hw).symm
  obtain rfl : u1 = uu := (congrArg Prod.snd hw).symm
  refine lv_if_eq (tgt := 14) hx hb dX5_save_7 (by decide) (fun c2 => ?_) (fun c2 => ?_)
  · replace hF := it_t c2 hF
    refine lv_iconst (v := 1) hx hb dX5_save_14 (by decide) ?_
    refine va_put (D := (dC, dI)) (ci := 0) (v := .int 1) (ty := .int) (C := RX5) (T := TX5) (N := 28) hx hb hts in_X5 tyX5 tyX5_ok nmX5 hown hK hP hD hS 0 tw_g rfl 6 (by decide) (hts _ q1992) (fun _ h9 => h9) rfl (tyX5_ok 6 (by decide)) rfl rfl (Nat.le_of_ble_eq_true rfl) dX5_save_15 (fun H locs hP hD hS => ?_)
    rw [tw_p6] at hP hD
    refine lv_aload_n hx hb dX5_save_18 rfl (lv_at hl 0 rfl) ?_
    refine va_get (D := (dC, dI)) (ci := 0) (v := .int (((tw_sf u1 6 1)).1 6)) (C := RX5) (T := TX5) (N := 28) hx hb hts in_X5 hown hK hP 0 tw_g rfl 6 (by decide) (hts _ q1992) (fun _ h9 => h9) rfl dX5_save_19 ?_
    refine lv_if_le (tgt := 27) hx hb dX5_save_22 (by decide) (fun c3 => ?_) (fun c3 => ?_)
    · replace hF := it_t c3 hF
      refine lv_aload_n hx hb dX5_save_27 rfl (lv_at hl 0 rfl) ?_
      refine va_get (D := (dC, dI)) (ci := 0) (v := .ref (ad 4)) (C := RX5) (T := TX5) (N := 28) hx hb hts in_X5 hown hK hP 0 tw_g rfl 4 (by decide) (hts _ q1990) (fun _ h9 => h9) rfl dX5_save_28 ?_
      refine lv_iload_n hx hb dX5_save_31 rfl (lv_at hl 1 rfl) ?_
      refine lv_iconst (v := 1) hx hb dX5_save_32 (by decide) ?_
      obtain ⟨g4, hF⟩ := gd_s hF
      refine va_zast hx hb hK hP hD hS 5 1 tw_e4 rfl (x := 1) (inB_in g4) dX5_save_33 (fun H locs hP hD hS => ?_)
      rw [tw_s4] at hP hD
      refine lv_iconst (v := 0) hx hb dX5_save_34 (by decide) ?_
      refine lv_istore_n (lv' := [(2, .int 0), (0, .ref m0), (1, .int p1)]) hx hb dX5_save_35 rfl hl (by decide) rfl (fun ls hl => ?_)
      exact lp1 (tw_sa (tw_sf u1 6 1) 4 (p1).toNatClampNeg (vp_nar .boolean 1)) p1 0 hF _ _ hP hD hS ls (lv_sub hl [1, 2, 0] rfl)
    · replace hF := it_f c3 hF
      refine lv_iconst (v := 0) hx hb dX5_save_25 (by decide) ?_
      exact W.iret (v := 0) hx hb hr (fun t ht hW => ⟨⟨0, (tw_sf u1 6 1), rfl, Option.some.inj hF, by rw [ht]; exact hP, va_K.moved hW.alike hK⟩, hS.F ht⟩) hS.2.2 dX5_save_26
  · replace hF := it_f c2 hF
    refine lv_iconst (v := 0) hx hb dX5_save_10 (by decide) ?_
    refine lv_goto (tgt := 15) hx hb dX5_save_11 (by decide) ?_
    refine va_put (D := (dC, dI)) (ci := 0) (v := .int 0) (ty := .int) (C := RX5) (T := TX5) (N := 28) hx hb hts in_X5 tyX5 tyX5_ok nmX5 hown hK hP hD hS 0 tw_g rfl 6 (by decide) (hts _ q1992) (fun _ h9 => h9) rfl (tyX5_ok 6 (by decide)) rfl rfl (Nat.le_of_ble_eq_true rfl) dX5_save_15 (fun H locs hP hD hS => ?_)
    rw [tw_p6] at hP hD
    refine lv_aload_n hx hb dX5_save_18 rfl (lv_at hl 0 rfl) ?_
    refine va_get (D := (dC, dI)) (ci := 0) (v := .int (((tw_sf u1 6 0)).1 6)) (C := RX5) (T := TX5) (N := 28) hx hb hts in_X5 hown hK hP 0 tw_g rfl 6 (by decide) (hts _ q1992) (fun _ h9 => h9) rfl dX5_save_19 ?_
    refine lv_if_le (tgt := 27) hx hb dX5_save_22 (by decide) (fun c5 => ?_) (fun c5 => ?_)
    · replace hF := it_t c5 hF
      refine lv_aload_n hx hb dX5_save_27 rfl (lv_at hl 0 rfl) ?_
      refine va_get (D := (dC, dI)) (ci := 0) (v := .ref (ad 4)) (C := RX5) (T := TX5) (N := 28) hx hb hts in_X5 hown hK hP 0 tw_g rfl 4 (by decide) (hts _ q1990) (fun _ h9 => h9) rfl dX5_save_28 ?_
      refine lv_iload_n hx hb dX5_save_31 rfl (lv_at hl 1 rfl) ?_
      refine lv_iconst (v := 1) hx hb dX5_save_32 (by decide) ?_
      obtain ⟨g6, hF⟩ := gd_s hF
      refine va_zast hx hb hK hP hD hS 5 1 tw_e4 rfl (x := 1) (inB_in g6) dX5_save_33 (fun H locs hP hD hS => ?_)
      rw [tw_s4] at hP hD
      refine lv_iconst (v := 0) hx hb dX5_save_34 (by decide) ?_
      refine lv_istore_n (lv' := [(2, .int 0), (0, .ref m0), (1, .int p1)]) hx hb dX5_save_35 rfl hl (by decide) rfl (fun ls hl => ?_)
      exact lp1 (tw_sa (tw_sf u1 6 0) 4 (p1).toNatClampNeg (vp_nar .boolean 1)) p1 0 hF _ _ hP hD hS ls (lv_sub hl [1, 2, 0] rfl)
    · replace hF := it_f c5 hF
      refine lv_iconst (v := 0) hx hb dX5_save_25 (by decide) ?_
      exact W.iret (v := 0) hx hb hr (fun t ht hW => ⟨⟨0, (tw_sf u1 6 0), rfl, Option.some.inj hF, by rw [ht]; exact hP, va_K.moved hW.alike hK⟩, hS.F ht⟩) hS.2.2 dX5_save_26

def F_restore (n : Nat) (σ : Tw) (p1 : Int32) : Option (Int32 × Tw) := bnd (F_isIn σ p1 0 1) (fun r1 u1 => if r1 = 0 then if (((tw_sf u1 6 1)).1 6) ≤ 0 then bnd (F_keeps n (tw_sf u1 6 1) ) (fun r14 u14 => bnd (F_becomes_slots n u14 (162 * p1)) (fun r15 u15 => gd (inB 5 162) (some (((u15).2 0 (5 : Int32).toNatClampNeg), u15)))) else some (0, (tw_sf u1 6 1)) else gd (inB p1 2) (if ((u1).2 4 (p1).toNatClampNeg) = 0 then if (((tw_sf u1 6 2)).1 6) ≤ 0 then bnd (F_keeps n (tw_sf u1 6 2) ) (fun r6 u6 => bnd (F_becomes_slots n u6 (162 * p1)) (fun r7 u7 => gd (inB 5 162) (some (((u7).2 0 (5 : Int32).toNatClampNeg), u7)))) else some (0, (tw_sf u1 6 2)) else if (((tw_sf u1 6 0)).1 6) ≤ 0 then bnd (F_keeps n (tw_sf u1 6 0) ) (fun r10 u10 => bnd (F_becomes_slots n u10 (162 * p1)) (fun r11 u11 => gd (inB 5 162) (some (((u11).2 0 (5 : Int32).toNatClampNeg), u11)))) else some (0, (tw_sf u1 6 0))))
set_option maxHeartbeats 4000000 in
set_option maxRecDepth 100000 in
theorem mt_restore (l : Launch) (dC : Nat → ClassId) (dI : Nat → Nat → Nat) (cI cZ : ClassId) (m0 : Nat) (ad : Nat → Nat) (sz : Nat) (σ : Tw) (n : Nat)  (p1 : Int32) (out : Int32 × Tw) (hF : F_restore n σ p1 = some out) : Met l yX5_restore (ws_ yX5_restore cX5_restore 2 (some .int)) ({ frames := 1, cells := 0, slots := 0, locals := 23 }) (va_Pc [.ref m0, .int p1] (tw_Pre dC dI cI cZ m0 ad sz σ)) (va_Qi (fun r u => (r, u) = out) (tw_B dC dI cI cZ m0 ad) (tw_A m0 ad sz)) 0 0 (tw_A m0 ad sz) := by
  refine Met.ofW (cc := cX5_restore) (maxL := 2) (ret := (some .int)) (by decide +kernel) rfl ?_
  intro p e s m args below meth c s₁ B hml hv
  obtain ⟨rfl, hsz, hP, hK, hD0⟩ := hv
  have hx := B.exec
  have hb := B.bytes
  have hr := B.returns
  have hts := atoms_spec (ws := (ws_ yX5_restore cX5_restore 2 (some .int))) B.pre
  have hts : ∀ w ∈ lw_all, w.before _ s = true := fun w h => hts w (List.mem_cons_of_mem _ h)
  have hown : s.vm.findClass RX5 = some m.cls := findClass_of_methodNamed B.named
  have hlocks := B.notSynchronized
  subst hsz
  have hD := tw_Ds (z := s.heap.size) hD0
  have hAA := fun z (h : s.heap.size ≤ z) => tw_Am (m0 := m0) (ad := ad) h
  generalize hAe : tw_A m0 ad s.heap.size = A at hD hAA ⊢
  have hS : va_S A s.heap s.heap [] := va_S.rf
  have hP : va_P (dC, dI) vwCl (tw_ws m0 ad cI cZ σ) s.heap := hP
  have hl := lv_entry ([.ref m0, .int p1]) (n := 2) (Nat.le_of_ble_eq_true rfl)
  rw [lg_entry_eq]
  generalize (lg_sl ([.ref m0, .int p1]) ++ List.replicate (2 - (lg_sl ([.ref m0, .int p1])).length) Slot.unset).toArray = ls at hl ⊢
  have hl : lv_has ls 2 [(0, .ref m0), (1, .int p1)] := hl
  unfold F_restore at hF
  refine lv_aload_n hx hb dX5_restore_0 rfl (lv_at hl 0 rfl) ?_
  refine lv_iload_n hx hb dX5_restore_1 rfl (lv_at hl 1 rfl) ?_
  refine lv_iconst (v := 0) hx hb dX5_restore_2 (by decide) ?_
  refine lv_iconst (v := 1) hx hb dX5_restore_3 (by decide) ?_
  obtain ⟨r1, u1, e1, hF⟩ := bnd_s hF
  refine tw_calli (va_runS (As := [.int p1, .int 0, .int 1]) (rest := [.ref m0]) ⟨hx, hb, hml, hown, hts⟩ (mt_isIn l dC dI cI cZ m0 ad s.heap.size σ  p1 0 1 _ e1) (va_cwS 3 hts (lw_S q2084 q2085 q125 q2086) rfl rfl rfl (by decide +kernel) ⟨Nat.le_of_ble_eq_true rfl, Nat.le_of_ble_eq_true rfl⟩) (tw_preS hK hP hD _) rfl rfl hl.1 rfl (lv_room (Nat.le_of_ble_eq_true rfl)) dX5_restore_4 ⟨Nat.le_of_ble_eq_true rfl, Nat.le_of_ble_eq_true rfl⟩) hS hD hAA (fun rr uu H locs hw hP hD hS => ?_)
  obtain rfl : r1 = rr := (congrArg Prod.fst hw).symm
  obtain rfl : u1 = uu := (congrArg Prod.snd hw).symm
  refine lv_if_ne (tgt := 14) hx hb dX5_restore_7 (by decide) (fun c2 => ?_) (fun c2 => ?_)
  · replace hF := it_f c2 hF
    refine lv_aload_n hx hb dX5_restore_14 rfl (lv_at hl 0 rfl) ?_
    refine va_get (D := (dC, dI)) (ci := 0) (v := .ref (ad 4)) (C := RX5) (T := TX5) (N := 28) hx hb hts in_X5 hown hK hP 0 tw_g rfl 4 (by decide) (hts _ q1990) (fun _ h9 => h9) rfl dX5_restore_15 ?_
    refine lv_iload_n hx hb dX5_restore_18 rfl (lv_at hl 1 rfl) ?_
    obtain ⟨g3, hF⟩ := gd_s hF
    refine va_zald hx hb hK hP 5 1 tw_e4 rfl (inB_in g3) dX5_restore_19 ?_
    refine lv_if_eq (tgt := 27) hx hb dX5_restore_20 (by decide) (fun c4 => ?_) (fun c4 => ?_)
    · replace hF := it_t c4 hF
      refine lv_iconst (v := 2) hx hb dX5_restore_27 (by decide) ?_
      refine va_put (D := (dC, dI)) (ci := 0) (v := .int 2) (ty := .int) (C := RX5) (T := TX5) (N := 28) hx hb hts in_X5 tyX5 tyX5_ok nmX5 hown hK hP hD hS 0 tw_g rfl 6 (by decide) (hts _ q1992) (fun _ h9 => h9) rfl (tyX5_ok 6 (by decide)) rfl rfl (Nat.le_of_ble_eq_true rfl) dX5_restore_28 (fun H locs hP hD hS => ?_)
      rw [tw_p6] at hP hD
      refine lv_aload_n hx hb dX5_restore_31 rfl (lv_at hl 0 rfl) ?_
      refine va_get (D := (dC, dI)) (ci := 0) (v := .int (((tw_sf u1 6 2)).1 6)) (C := RX5) (T := TX5) (N := 28) hx hb hts in_X5 hown hK hP 0 tw_g rfl 6 (by decide) (hts _ q1992) (fun _ h9 => h9) rfl dX5_restore_32 ?_
      refine lv_if_le (tgt := 40) hx hb dX5_restore_35 (by decide) (fun c5 => ?_) (fun c5 => ?_)
      · replace hF := it_t c5 hF
        refine lv_aload_n hx hb dX5_restore_40 rfl (lv_at hl 0 rfl) ?_
        obtain ⟨r6, u6, e6, hF⟩ := bnd_s hF
        refine tw_callv (va_runV (As := []) (rest := []) ⟨hx, hb, hml, hown, hts⟩ (mt_keeps l dC dI cI cZ m0 ad H.size (tw_sf u1 6 2) n   _ e6) (cwV 0 hts (lw_V q2091 q2093 qs46 q125 q2094) rfl rfl rfl (by decide +kernel) ⟨Nat.le_of_ble_eq_true rfl, Nat.le_of_ble_eq_true rfl⟩) (tw_preV hK hP hD _) rfl rfl hl.1 rfl (lv_room (Nat.le_of_ble_eq_true rfl)) dX5_restore_41 ⟨Nat.le_of_ble_eq_true rfl, Nat.le_of_ble_eq_true rfl⟩) hS hD hAA (fun uu H locs hw hP hD hS => ?_)
        obtain rfl : u6 = uu := (congrArg Prod.snd hw).symm
        refine lv_aload_n hx hb dX5_restore_44 rfl (lv_at hl 0 rfl) ?_
        refine lv_aload_n hx hb dX5_restore_45 rfl (lv_at hl 0 rfl) ?_
        refine va_get (D := (dC, dI)) (ci := 0) (v := .ref (ad 3)) (C := RX5) (T := TX5) (N := 28) hx hb hts in_X5 hown hK hP 0 tw_g rfl 3 (by decide) (hts _ q1989) (fun _ h9 => h9) rfl dX5_restore_46 ?_
        refine lv_sipush (v := 162) hx hb dX5_restore_49 (by decide) ?_
        refine lv_iload_n hx hb dX5_restore_52 rfl (lv_at hl 1 rfl) ?_
        refine lv_imul hx hb dX5_restore_53 ?_
        obtain ⟨r7, u7, e7, hF⟩ := bnd_s hF
        refine tw_callv (va_runV (As := [.ref (ad 3), .int (162 * p1)]) (rest := []) ⟨hx, hb, hml, hown, hts⟩ (mt_becomes_slots l dC dI cI cZ m0 ad H.size u6 n  (162 * p1) _ e7) (cwV 2 hts (lw_V q1982 q1984 qs45 q125 q1985) rfl rfl rfl (by decide +kernel) ⟨Nat.le_of_ble_eq_true rfl, Nat.le_of_ble_eq_true rfl⟩) (tw_preV hK hP hD _) rfl rfl hl.1 rfl (lv_room (Nat.le_of_ble_eq_true rfl)) dX5_restore_54 ⟨Nat.le_of_ble_eq_true rfl, Nat.le_of_ble_eq_true rfl⟩) hS hD hAA (fun uu H locs hw hP hD hS => ?_)
        obtain rfl : u7 = uu := (congrArg Prod.snd hw).symm
        refine lv_aload_n hx hb dX5_restore_57 rfl (lv_at hl 0 rfl) ?_
        refine va_get (D := (dC, dI)) (ci := 0) (v := .ref (ad 0)) (C := RX5) (T := TX5) (N := 28) hx hb hts in_X5 hown hK hP 0 tw_g rfl 0 (by decide) (hts _ q1986) (fun _ h9 => h9) rfl dX5_restore_58 ?_
        refine lv_iconst (v := 5) hx hb dX5_restore_61 (by decide) ?_
        obtain ⟨g8, hF⟩ := gd_s hF
        refine va_iald hx hb hK hP 1 0 tw_e0 rfl (inB_in g8) dX5_restore_62 ?_
        exact W.iret (v := ((u7).2 0 (5 : Int32).toNatClampNeg)) hx hb hr (fun t ht hW => ⟨⟨((u7).2 0 (5 : Int32).toNatClampNeg), u7, rfl, Option.some.inj hF, by rw [ht]; exact hP, va_K.moved hW.alike hK⟩, hS.F ht⟩) hS.2.2 dX5_restore_63
      · replace hF := it_f c5 hF
        refine lv_iconst (v := 0) hx hb dX5_restore_38 (by decide) ?_
        exact W.iret (v := 0) hx hb hr (fun t ht hW => ⟨⟨0, (tw_sf u1 6 2), rfl, Option.some.inj hF, by rw [ht]; exact hP, va_K.moved hW.alike hK⟩, hS.F ht⟩) hS.2.2 dX5_restore_39
    · replace hF := it_f c4 hF
      refine lv_iconst (v := 0) hx hb dX5_restore_23 (by decide) ?_
      refine lv_goto (tgt := 28) hx hb dX5_restore_24 (by decide) ?_
      refine va_put (D := (dC, dI)) (ci := 0) (v := .int 0) (ty := .int) (C := RX5) (T := TX5) (N := 28) hx hb hts in_X5 tyX5 tyX5_ok nmX5 hown hK hP hD hS 0 tw_g rfl 6 (by decide) (hts _ q1992) (fun _ h9 => h9) rfl (tyX5_ok 6 (by decide)) rfl rfl (Nat.le_of_ble_eq_true rfl) dX5_restore_28 (fun H locs hP hD hS => ?_)
      rw [tw_p6] at hP hD
      refine lv_aload_n hx hb dX5_restore_31 rfl (lv_at hl 0 rfl) ?_
      refine va_get (D := (dC, dI)) (ci := 0) (v := .int (((tw_sf u1 6 0)).1 6)) (C := RX5) (T := TX5) (N := 28) hx hb hts in_X5 hown hK hP 0 tw_g rfl 6 (by decide) (hts _ q1992) (fun _ h9 => h9) rfl dX5_restore_32 ?_
      refine lv_if_le (tgt := 40) hx hb dX5_restore_35 (by decide) (fun c9 => ?_) (fun c9 => ?_)
      · replace hF := it_t c9 hF
        refine lv_aload_n hx hb dX5_restore_40 rfl (lv_at hl 0 rfl) ?_
        obtain ⟨r10, u10, e10, hF⟩ := bnd_s hF
        refine tw_callv (va_runV (As := []) (rest := []) ⟨hx, hb, hml, hown, hts⟩ (mt_keeps l dC dI cI cZ m0 ad H.size (tw_sf u1 6 0) n   _ e10) (cwV 0 hts (lw_V q2091 q2093 qs46 q125 q2094) rfl rfl rfl (by decide +kernel) ⟨Nat.le_of_ble_eq_true rfl, Nat.le_of_ble_eq_true rfl⟩) (tw_preV hK hP hD _) rfl rfl hl.1 rfl (lv_room (Nat.le_of_ble_eq_true rfl)) dX5_restore_41 ⟨Nat.le_of_ble_eq_true rfl, Nat.le_of_ble_eq_true rfl⟩) hS hD hAA (fun uu H locs hw hP hD hS => ?_)
        obtain rfl : u10 = uu := (congrArg Prod.snd hw).symm
        refine lv_aload_n hx hb dX5_restore_44 rfl (lv_at hl 0 rfl) ?_
        refine lv_aload_n hx hb dX5_restore_45 rfl (lv_at hl 0 rfl) ?_
        refine va_get (D := (dC, dI)) (ci := 0) (v := .ref (ad 3)) (C := RX5) (T := TX5) (N := 28) hx hb hts in_X5 hown hK hP 0 tw_g rfl 3 (by decide) (hts _ q1989) (fun _ h9 => h9) rfl dX5_restore_46 ?_
        refine lv_sipush (v := 162) hx hb dX5_restore_49 (by decide) ?_
        refine lv_iload_n hx hb dX5_restore_52 rfl (lv_at hl 1 rfl) ?_
        refine lv_imul hx hb dX5_restore_53 ?_
        obtain ⟨r11, u11, e11, hF⟩ := bnd_s hF
        refine tw_callv (va_runV (As := [.ref (ad 3), .int (162 * p1)]) (rest := []) ⟨hx, hb, hml, hown, hts⟩ (mt_becomes_slots l dC dI cI cZ m0 ad H.size u10 n  (162 * p1) _ e11) (cwV 2 hts (lw_V q1982 q1984 qs45 q125 q1985) rfl rfl rfl (by decide +kernel) ⟨Nat.le_of_ble_eq_true rfl, Nat.le_of_ble_eq_true rfl⟩) (tw_preV hK hP hD _) rfl rfl hl.1 rfl (lv_room (Nat.le_of_ble_eq_true rfl)) dX5_restore_54 ⟨Nat.le_of_ble_eq_true rfl, Nat.le_of_ble_eq_true rfl⟩) hS hD hAA (fun uu H locs hw hP hD hS => ?_)
        obtain rfl : u11 = uu := (congrArg Prod.snd hw).symm
        refine lv_aload_n hx hb dX5_restore_57 rfl (lv_at hl 0 rfl) ?_
        refine va_get (D := (dC, dI)) (ci := 0) (v := .ref (ad 0)) (C := RX5) (T := TX5) (N := 28) hx hb hts in_X5 hown hK hP 0 tw_g rfl 0 (by decide) (hts _ q1986) (fun _ h9 => h9) rfl dX5_restore_58 ?_
        refine lv_iconst (v := 5) hx hb dX5_restore_61 (by decide) ?_
        obtain ⟨g12, hF⟩ := gd_s hF
        refine va_iald hx hb hK hP 1 0 tw_e0 rfl (inB_in g12) dX5_restore_62 ?_
        exact W.iret (v := ((u11).2 0 (5 : Int32).toNatClampNeg)) hx hb hr (fun t ht hW => ⟨⟨((u11).2 0 (5 : Int32).toNatClampNeg), u11, rfl, Option.some.inj hF, by rw [ht]; exact hP, va_K.moved hW.alike hK⟩, hS.F ht⟩) hS.2.2 dX5_restore_63
      · replace hF := it_f c9 hF
        refine lv_iconst (v := 0) hx hb dX5_restore_38 (by decide) ?_
        exact W.iret (v := 0) hx hb hr (fun t ht hW => ⟨⟨0, (tw_sf u1 6 0), rfl, Option.some.inj hF, by rw [ht]; exact hP, va_K.moved hW.alike hK⟩, hS.F ht⟩) hS.2.2 dX5_restore_39
  · replace hF := it_t c2 hF
    refine lv_iconst (v := 1) hx hb dX5_restore_10 (by decide) ?_
    refine lv_goto (tgt := 28) hx hb dX5_restore_11 (by decide) ?_
    refine va_put (D := (dC, dI)) (ci := 0) (v := .int 1) (ty := .int) (C := RX5) (T := TX5) (N := 28) hx hb hts in_X5 tyX5 tyX5_ok nmX5 hown hK hP hD hS 0 tw_g rfl 6 (by decide) (hts _ q1992) (fun _ h9 => h9) rfl (tyX5_ok 6 (by decide)) rfl rfl (Nat.le_of_ble_eq_true rfl) dX5_restore_28 (fun H locs hP hD hS => ?_)
    rw [tw_p6] at hP hD
    refine lv_aload_n hx hb dX5_restore_31 rfl (lv_at hl 0 rfl) ?_
    refine va_get (D := (dC, dI)) (ci := 0) (v := .int (((tw_sf u1 6 1)).1 6)) (C := RX5) (T := TX5) (N := 28) hx hb hts in_X5 hown hK hP 0 tw_g rfl 6 (by decide) (hts _ q1992) (fun _ h9 => h9) rfl dX5_restore_32 ?_
    refine lv_if_le (tgt := 40) hx hb dX5_restore_35 (by decide) (fun c13 => ?_) (fun c13 => ?_)
    · replace hF := it_t c13 hF
      refine lv_aload_n hx hb dX5_restore_40 rfl (lv_at hl 0 rfl) ?_
      obtain ⟨r14, u14, e14, hF⟩ := bnd_s hF
      refine tw_callv (va_runV (As := []) (rest := []) ⟨hx, hb, hml, hown, hts⟩ (mt_keeps l dC dI cI cZ m0 ad H.size (tw_sf u1 6 1) n   _ e14) (cwV 0 hts (lw_V q2091 q2093 qs46 q125 q2094) rfl rfl rfl (by decide +kernel) ⟨Nat.le_of_ble_eq_true rfl, Nat.le_of_ble_eq_true rfl⟩) (tw_preV hK hP hD _) rfl rfl hl.1 rfl (lv_room (Nat.le_of_ble_eq_true rfl)) dX5_restore_41 ⟨Nat.le_of_ble_eq_true rfl, Nat.le_of_ble_eq_true rfl⟩) hS hD hAA (fun uu H locs hw hP hD hS => ?_)
      obtain rfl : u14 = uu := (congrArg Prod.snd hw).symm
      refine lv_aload_n hx hb dX5_restore_44 rfl (lv_at hl 0 rfl) ?_
      refine lv_aload_n hx hb dX5_restore_45 rfl (lv_at hl 0 rfl) ?_
      refine va_get (D := (dC, dI)) (ci := 0) (v := .ref (ad 3)) (C := RX5) (T := TX5) (N := 28) hx hb hts in_X5 hown hK hP 0 tw_g rfl 3 (by decide) (hts _ q1989) (fun _ h9 => h9) rfl dX5_restore_46 ?_
      refine lv_sipush (v := 162) hx hb dX5_restore_49 (by decide) ?_
      refine lv_iload_n hx hb dX5_restore_52 rfl (lv_at hl 1 rfl) ?_
      refine lv_imul hx hb dX5_restore_53 ?_
      obtain ⟨r15, u15, e15, hF⟩ := bnd_s hF
      refine tw_callv (va_runV (As := [.ref (ad 3), .int (162 * p1)]) (rest := []) ⟨hx, hb, hml, hown, hts⟩ (mt_becomes_slots l dC dI cI cZ m0 ad H.size u14 n  (162 * p1) _ e15) (cwV 2 hts (lw_V q1982 q1984 qs45 q125 q1985) rfl rfl rfl (by decide +kernel) ⟨Nat.le_of_ble_eq_true rfl, Nat.le_of_ble_eq_true rfl⟩) (tw_preV hK hP hD _) rfl rfl hl.1 rfl (lv_room (Nat.le_of_ble_eq_true rfl)) dX5_restore_54 ⟨Nat.le_of_ble_eq_true rfl, Nat.le_of_ble_eq_true rfl⟩) hS hD hAA (fun uu H locs hw hP hD hS => ?_)
      obtain rfl : u15 = uu := (congrArg Prod.snd hw).symm
      refine lv_aload_n hx hb dX5_restore_57 rfl (lv_at hl 0 rfl) ?_
      refine va_get (D := (dC, dI)) (ci := 0) (v := .ref (ad 0)) (C := RX5) (T := TX5) (N := 28) hx hb hts in_X5 hown hK hP 0 tw_g rfl 0 (by decide) (hts _ q1986) (fun _ h9 => h9) rfl dX5_restore_58 ?_
      refine lv_iconst (v := 5) hx hb dX5_restore_61 (by decide) ?_
      obtain ⟨g16, hF⟩ := gd_s hF
      refine va_iald hx hb hK hP 1 0 tw_e0 rfl (inB_in g16) dX5_restore_62 ?_
      exact W.iret (v := ((u15).2 0 (5 : Int32).toNatClampNeg)) hx hb hr (fun t ht hW => ⟨⟨((u15).2 0 (5 : Int32).toNatClampNeg), u15, rfl, Option.some.inj hF, by rw [ht]; exact hP, va_K.moved hW.alike hK⟩, hS.F ht⟩) hS.2.2 dX5_restore_63
    · replace hF := it_f c13 hF
      refine lv_iconst (v := 0) hx hb dX5_restore_38 (by decide) ?_
      exact W.iret (v := 0) hx hb hr (fun t ht hW => ⟨⟨0, (tw_sf u1 6 1), rfl, Option.some.inj hF, by rw [ht]; exact hP, va_K.moved hW.alike hK⟩, hS.F ht⟩) hS.2.2 dX5_restore_39

def F_append_1 (R : Nat → Tw → Int32 → Int32 → Int32 → Int32 → Int32 → Int32 → Int32 → Option (Int32 × Tw)) (n : Nat) (σ : Tw) (x1 : Int32) (x2 : Int32) (x3 : Int32) (x4 : Int32) (x5 : Int32) (x6 : Int32) (x7 : Int32) : Option (Int32 × Tw) := if 20 ≤ x6 then some (((σ).1 8), σ) else if 4 ≤ x6 then if 8 ≤ x6 then if 12 ≤ x6 then if 16 ≤ x6 then gd (nzB 4) (gd (inB ((σ).1 8) 800) (R 1 (tw_sf (tw_sa σ 7 (((σ).1 8)).toNatClampNeg ((x5 >>> ((24 - (8 * (x6 - x6 / 4 * 4))) &&& 31)) &&& 255)) 8 ((((tw_sa σ 7 (((σ).1 8)).toNatClampNeg ((x5 >>> ((24 - (8 * (x6 - x6 / 4 * 4))) &&& 31)) &&& 255))).1 8) + 1)) x1 x2 x3 x4 x5 (x6 + 1) x5)) else gd (nzB 4) (gd (inB ((σ).1 8) 800) (R 1 (tw_sf (tw_sa σ 7 (((σ).1 8)).toNatClampNeg ((x4 >>> ((24 - (8 * (x6 - x6 / 4 * 4))) &&& 31)) &&& 255)) 8 ((((tw_sa σ 7 (((σ).1 8)).toNatClampNeg ((x4 >>> ((24 - (8 * (x6 - x6 / 4 * 4))) &&& 31)) &&& 255))).1 8) + 1)) x1 x2 x3 x4 x5 (x6 + 1) x4)) else gd (nzB 4) (gd (inB ((σ).1 8) 800) (R 1 (tw_sf (tw_sa σ 7 (((σ).1 8)).toNatClampNeg ((x3 >>> ((24 - (8 * (x6 - x6 / 4 * 4))) &&& 31)) &&& 255)) 8 ((((tw_sa σ 7 (((σ).1 8)).toNatClampNeg ((x3 >>> ((24 - (8 * (x6 - x6 / 4 * 4))) &&& 31)) &&& 255))).1 8) + 1)) x1 x2 x3 x4 x5 (x6 + 1) x3)) else gd (nzB 4) (gd (inB ((σ).1 8) 800) (R 1 (tw_sf (tw_sa σ 7 (((σ).1 8)).toNatClampNeg ((x2 >>> ((24 - (8 * (x6 - x6 / 4 * 4))) &&& 31)) &&& 255)) 8 ((((tw_sa σ 7 (((σ).1 8)).toNatClampNeg ((x2 >>> ((24 - (8 * (x6 - x6 / 4 * 4))) &&& 31)) &&& 255))).1 8) + 1)) x1 x2 x3 x4 x5 (x6 + 1) x2)) else gd (nzB 4) (gd (inB ((σ).1 8) 800) (R 1 (tw_sf (tw_sa σ 7 (((σ).1 8)).toNatClampNeg ((x1 >>> ((24 - (8 * (x6 - x6 / 4 * 4))) &&& 31)) &&& 255)) 8 ((((tw_sa σ 7 (((σ).1 8)).toNatClampNeg ((x1 >>> ((24 - (8 * (x6 - x6 / 4 * 4))) &&& 31)) &&& 255))).1 8) + 1)) x1 x2 x3 x4 x5 (x6 + 1) x1))
def F_append_r : Nat → Nat → Tw → Int32 → Int32 → Int32 → Int32 → Int32 → Int32 → Int32 → Option (Int32 × Tw)
  | 0 => fun _ _ _ _ _ _ _ _ _ => none
  | n + 1 => fun k => match k with  | _ => F_append_1 (F_append_r n) n
def F_append_0 (R : Nat → Tw → Int32 → Int32 → Int32 → Int32 → Int32 → Int32 → Int32 → Option (Int32 × Tw)) (n : Nat) (σ : Tw) (p1 : Int32) (p2 : Int32) (p3 : Int32) (p4 : Int32) (p5 : Int32) : Option (Int32 × Tw) := if (((σ).1 8) + 20) ≤ 800 then if (((tw_sf σ 6 0)).1 6) ≤ 0 then R 1 (tw_sf σ 6 0) p1 p2 p3 p4 p5 0 0 else some (0, (tw_sf σ 6 0)) else if (((tw_sf σ 6 1)).1 6) ≤ 0 then R 1 (tw_sf σ 6 1) p1 p2 p3 p4 p5 0 0 else some (0, (tw_sf σ 6 1))
def F_append (n : Nat) (σ : Tw) (p1 : Int32) (p2 : Int32) (p3 : Int32) (p4 : Int32) (p5 : Int32) : Option (Int32 × Tw) := F_append_0 (F_append_r n) n σ p1 p2 p3 p4 p5
set_option maxHeartbeats 4000000 in
set_option maxRecDepth 100000 in
theorem mt_append (l : Launch) (dC : Nat → ClassId) (dI : Nat → Nat → Nat) (cI cZ : ClassId) (m0 : Nat) (ad : Nat → Nat) (sz : Nat) (σ : Tw) (n : Nat)  (p1 : Int32) (p2 : Int32) (p3 : Int32) (p4 : Int32) (p5 : Int32) (out : Int32 × Tw) (hF : F_append n σ p1 p2 p3 p4 p5 = some out) : Met l yX5_append (ws_ yX5_append cX5_append 8 (some .int)) ({ frames := 0, cells := 0, slots := 0, locals := 0 }) (va_Pc [.ref m0, .int p1, .int p2, .int p3, .int p4, .int p5] (tw_Pre dC dI cI cZ m0 ad sz σ)) (va_Qi (fun r u => (r, u) = out) (tw_B dC dI cI cZ m0 ad) (tw_A m0 ad sz)) 0 0 (tw_A m0 ad sz) := by
  refine Met.ofW (cc := cX5_append) (maxL := 8) (ret := (some .int)) (by decide +kernel) rfl ?_
  intro p e s m args below meth c s₁ B hml hv
  obtain ⟨rfl, hsz, hP, hK, hD0⟩ := hv
  have hx := B.exec
  have hb := B.bytes
  have hr := B.returns
  have hts := atoms_spec (ws := (ws_ yX5_append cX5_append 8 (some .int))) B.pre
  have hts : ∀ w ∈ lw_all, w.before _ s = true := fun w h => hts w (List.mem_cons_of_mem _ h)
  have hown : s.vm.findClass RX5 = some m.cls := findClass_of_methodNamed B.named
  have hlocks := B.notSynchronized
  subst hsz
  have hD := tw_Ds (z := s.heap.size) hD0
  have hAA := fun z (h : s.heap.size ≤ z) => tw_Am (m0 := m0) (ad := ad) h
  generalize hAe : tw_A m0 ad s.heap.size = A at hD hAA ⊢
  have hS : va_S A s.heap s.heap [] := va_S.rf
  have hP : va_P (dC, dI) vwCl (tw_ws m0 ad cI cZ σ) s.heap := hP
  have hl := lv_entry ([.ref m0, .int p1, .int p2, .int p3, .int p4, .int p5]) (n := 8) (Nat.le_of_ble_eq_true rfl)
  rw [lg_entry_eq]
  generalize (lg_sl ([.ref m0, .int p1, .int p2, .int p3, .int p4, .int p5]) ++ List.replicate (8 - (lg_sl ([.ref m0, .int p1, .int p2, .int p3, .int p4, .int p5])).length) Slot.unset).toArray = ls at hl ⊢
  have hl : lv_has ls 8 [(0, .ref m0), (1, .int p1), (2, .int p2), (3, .int p3), (4, .int p4), (5, .int p5)] := hl
  have loop : ∀ n : Nat, (∀ (σ : Tw) (x1 x2 x3 x4 x5 x6 x7 : Int32), F_append_r n 1 σ x1 x2 x3 x4 x5 x6 x7 = some out → ∀ (H : Heap) (locs : List Loc), va_P (dC, dI) vwCl (tw_ws m0 ad cI cZ σ) H → va_D A (tw_ws m0 ad cI cZ σ) → va_S A s.heap H locs → ∀ ls : Array Slot, lv_has ls 8 [(0, .ref m0), (1, .int x1), (2, .int x2), (3, .int x3), (4, .int x4), (5, .int x5), (6, .int x6)] → W p l e (headSpec (ws_ yX5_append cX5_append 8 (some .int)) ({ frames := 0, cells := 0, slots := 0, locals := 0 })).room s m ([.ref m0, .int p1, .int p2, .int p3, .int p4, .int p5] : List Value).toArray below meth c H locs 0 0 (MQ below (va_Qi (fun r u => (r, u) = out) (tw_B dC dI cI cZ m0 ad) A) ([.ref m0, .int p1, .int p2, .int p3, .int p4, .int p5] : List Value).toArray s 0 0 A) (F0 m 34 ls [])) := by
    intro n
    induction n with
    | zero => exact (fun _ _ _ _ _ _ _ _ h => nomatch h)
    | succ n ih =>
      have lp1 := ih
      intro σ x1 x2 x3 x4 x5 x6 x7 hF H locs hP hD hS ls hl
      replace hF : F_append_1 (F_append_r n) n σ x1 x2 x3 x4 x5 x6 x7 = some out := hF
      unfold F_append_1 at hF
      refine lv_iload hx hb dX5_append_34 (lv_at hl 6 rfl) ?_
      refine lv_bipush (v := 20) hx hb dX5_append_36 (by decide) ?_
      refine lv_icmp_ge (tgt := 131) hx hb dX5_append_38 (by decide) (fun c4 => ?_) (fun c4 => ?_)
      · replace hF := it_t c4 hF
        refine lv_aload_n hx hb dX5_append_131 rfl (lv_at hl 0 rfl) ?_
        refine va_get (D := (dC, dI)) (ci := 0) (v := .int ((σ).1 8)) (C := RX5) (T := TX5) (N := 28) hx hb hts in_X5 hown hK hP 0 tw_g rfl 8 (by decide) (hts _ q1994) (fun _ h9 => h9) rfl dX5_append_132 ?_
        exact W.iret (v := ((σ).1 8)) hx hb hr (fun t ht hW => ⟨⟨((σ).1 8), σ, rfl, Option.some.inj hF, by rw [ht]; exact hP, va_K.moved hW.alike hK⟩, hS.F ht⟩) hS.2.2 dX5_append_135
      · replace hF := it_f c4 hF
        refine lv_iload hx hb dX5_append_41 (lv_at hl 6 rfl) ?_
        refine lv_iconst (v := 4) hx hb dX5_append_43 (by decide) ?_
        refine lv_icmp_ge (tgt := 51) hx hb dX5_append_44 (by decide) (fun c5 => ?_) (fun c5 => ?_)
        · replace hF := it_t c5 hF
          refine lv_iload hx hb dX5_append_51 (lv_at hl 6 rfl) ?_
          refine lv_bipush (v := 8) hx hb dX5_append_53 (by decide) ?_
          refine lv_icmp_ge (tgt := 62) hx hb dX5_append_55 (by decide) (fun c6 => ?_) (fun c6 => ?_)
          · replace hF := it_t c6 hF
            refine lv_iload hx hb dX5_append_62 (lv_at hl 6 rfl) ?_
            refine lv_bipush (v := 12) hx hb dX5_append_64 (by decide) ?_
            refine lv_icmp_ge (tgt := 73) hx hb dX5_append_66 (by decide) (fun c7 => ?_) (fun c7 => ?_)
            · replace hF := it_t c7 hF
              refine lv_iload hx hb dX5_append_73 (lv_at hl 6 rfl) ?_
              refine lv_bipush (v := 16) hx hb dX5_append_75 (by decide) ?_
              refine lv_icmp_ge (tgt := 85) hx hb dX5_append_77 (by decide) (fun c8 => ?_) (fun c8 => ?_)
              · replace hF := it_t c8 hF
                refine lv_iload hx hb dX5_append_85 (lv_at hl 5 rfl) ?_
                refine lv_istore (lv' := [(7, .int x5), (0, .ref m0), (1, .int x1), (2, .int x2), (3, .int x3), (4, .int x4), (5, .int x5), (6, .int x6)]) hx hb dX5_append_87 hl (by decide) rfl (fun ls hl => ?_)
                refine lv_aload_n hx hb dX5_append_89 rfl (lv_at hl 1 rfl) ?_
                refine va_get (D := (dC, dI)) (ci := 0) (v := .ref (ad 7)) (C := RX5) (T := TX5) (N := 28) hx hb hts in_X5 hown hK hP 0 tw_g rfl 7 (by decide) (hts _ q1993) (fun _ h9 => h9) rfl dX5_append_90 ?_
                refine lv_aload_n hx hb dX5_append_93 rfl (lv_at hl 1 rfl) ?_
                refine va_get (D := (dC, dI)) (ci := 0) (v := .int ((σ).1 8)) (C := RX5) (T := TX5) (N := 28) hx hb hts in_X5 hown hK hP 0 tw_g rfl 8 (by decide) (hts _ q1994) (fun _ h9 => h9) rfl dX5_append_94 ?_
                refine lv_iload hx hb dX5_append_97 (lv_at hl 0 rfl) ?_
                refine lv_bipush (v := 24) hx hb dX5_append_99 (by decide) ?_
                refine lv_bipush (v := 8) hx hb dX5_append_101 (by decide) ?_
                refine lv_iload hx hb dX5_append_103 (lv_at hl 7 rfl) ?_
                refine lv_iconst (v := 4) hx hb dX5_append_105 (by decide) ?_
                obtain ⟨g9, hF⟩ := gd_s hF
                refine lv_irem hx hb dX5_append_106 (nz_of g9) ?_
                refine lv_imul hx hb dX5_append_107 ?_
                refine lv_isub hx hb dX5_append_108 ?_
                refine lv_ishr hx hb dX5_append_109 ?_
                refine lv_sipush (v := 255) hx hb dX5_append_110 (by decide) ?_
                refine lv_iand hx hb dX5_append_113 ?_
                obtain ⟨g10, hF⟩ := gd_s hF
                refine va_iast hx hb hK hP hD hS 6 0 tw_e7 rfl (x := ((x5 >>> ((24 - (8 * (x6 - x6 / 4 * 4))) &&& 31)) &&& 255)) (inB_in g10) dX5_append_114 (fun H locs hP hD hS => ?_)
                rw [tw_s7] at hP hD
                refine lv_aload_n hx hb dX5_append_115 rfl (lv_at hl 1 rfl) ?_
                refine lv_dup hx hb dX5_append_116 rfl ?_
                refine va_get (D := (dC, dI)) (ci := 0) (v := .int (((tw_sa σ 7 (((σ).1 8)).toNatClampNeg ((x5 >>> ((24 - (8 * (x6 - x6 / 4 * 4))) &&& 31)) &&& 255))).1 8)) (C := RX5) (T := TX5) (N := 28) hx hb hts in_X5 hown hK hP 0 tw_g rfl 8 (by decide) (hts _ q1994) (fun _ h9 => h9) rfl dX5_append_117 ?_
                refine lv_iconst (v := 1) hx hb dX5_append_120 (by decide) ?_
                refine lv_iadd hx hb dX5_append_121 ?_
                refine va_put (D := (dC, dI)) (ci := 0) (v := .int ((((tw_sa σ 7 (((σ).1 8)).toNatClampNeg ((x5 >>> ((24 - (8 * (x6 - x6 / 4 * 4))) &&& 31)) &&& 255))).1 8) + 1)) (ty := .int) (C := RX5) (T := TX5) (N := 28) hx hb hts in_X5 tyX5 tyX5_ok nmX5 hown hK hP hD hS 0 tw_g rfl 8 (by decide) (hts _ q1994) (fun _ h9 => h9) rfl (tyX5_ok 8 (by decide)) rfl rfl (Nat.le_of_ble_eq_true rfl) dX5_append_122 (fun H locs hP hD hS => ?_)
                rw [tw_p8] at hP hD
                refine lv_iinc (v := (x6 + 1)) (lv' := [(6, .int (x6 + 1)), (7, .int x5), (0, .ref m0), (1, .int x1), (2, .int x2), (3, .int x3), (4, .int x4), (5, .int x5)]) hx hb dX5_append_125 hl (k := 7) rfl rfl (by decide) rfl (fun ls hl => ?_)
                refine lv_goto (tgt := 34) hx hb dX5_append_128 (by decide) ?_
                exact lp1 (tw_sf (tw_sa σ 7 (((σ).1 8)).toNatClampNeg ((x5 >>> ((24 - (8 * (x6 - x6 / 4 * 4))) &&& 31)) &&& 255)) 8 ((((tw_sa σ 7 (((σ).1 8)).toNatClampNeg ((x5 >>> ((24 - (8 * (x6 - x6 / 4 * 4))) &&& 31)) &&& 255))).1 8) + 1)) x1 x2 x3 x4 x5 (x6 + 1) x5 hF _ _ hP hD hS ls (lv_sub hl [2, 3, 4, 5, 6, 7, 0] rfl)
              · replace hF := it_f c8 hF
                refine lv_iload hx hb dX5_append_80 (lv_at hl 4 rfl) ?_
                refine lv_goto (tgt := 87) hx hb dX5_append_82 (by decide) ?_
                refine lv_istore (lv' := [(7, .int x4), (0, .ref m0), (1, .int x1), (2, .int x2), (3, .int x3), (4, .int x4), (5, .int x5), (6, .int x6)]) hx hb dX5_append_87 hl (by decide) rfl (fun ls hl => ?_)
                refine lv_aload_n hx hb dX5_append_89 rfl (lv_at hl 1 rfl) ?_
                refine va_get (D := (dC, dI)) (ci := 0) (v := .ref (ad 7)) (C := RX5) (T := TX5) (N := 28) hx hb hts in_X5 hown hK hP 0 tw_g rfl 7 (by decide) (hts _ q1993) (fun _ h9 => h9) rfl dX5_append_90 ?_
                refine lv_aload_n hx hb dX5_append_93 rfl (lv_at hl 1 rfl) ?_
                refine va_get (D := (dC, dI)) (ci := 0) (v := .int ((σ).1 8)) (C := RX5) (T := TX5) (N := 28) hx hb hts in_X5 hown hK hP 0 tw_g rfl 8 (by decide) (hts _ q1994) (fun _ h9 => h9) rfl dX5_append_94 ?_
                refine lv_iload hx hb dX5_append_97 (lv_at hl 0 rfl) ?_
                refine lv_bipush (v := 24) hx hb dX5_append_99 (by decide) ?_
                refine lv_bipush (v := 8) hx hb dX5_append_101 (by decide) ?_
                refine lv_iload hx hb dX5_append_103 (lv_at hl 7 rfl) ?_
                refine lv_iconst (v := 4) hx hb dX5_append_105 (by decide) ?_
                obtain ⟨g11, hF⟩ := gd_s hF
                refine lv_irem hx hb dX5_append_106 (nz_of g11) ?_
                refine lv_imul hx hb dX5_append_107 ?_
                refine lv_isub hx hb dX5_append_108 ?_
                refine lv_ishr hx hb dX5_append_109 ?_
                refine lv_sipush (v := 255) hx hb dX5_append_110 (by decide) ?_
                refine lv_iand hx hb dX5_append_113 ?_
                obtain ⟨g12, hF⟩ := gd_s hF
                refine va_iast hx hb hK hP hD hS 6 0 tw_e7 rfl (x := ((x4 >>> ((24 - (8 * (x6 - x6 / 4 * 4))) &&& 31)) &&& 255)) (inB_in g12) dX5_append_114 (fun H locs hP hD hS => ?_)
                rw [tw_s7] at hP hD
                refine lv_aload_n hx hb dX5_append_115 rfl (lv_at hl 1 rfl) ?_
                refine lv_dup hx hb dX5_append_116 rfl ?_
                refine va_get (D := (dC, dI)) (ci := 0) (v := .int (((tw_sa σ 7 (((σ).1 8)).toNatClampNeg ((x4 >>> ((24 - (8 * (x6 - x6 / 4 * 4))) &&& 31)) &&& 255))).1 8)) (C := RX5) (T := TX5) (N := 28) hx hb hts in_X5 hown hK hP 0 tw_g rfl 8 (by decide) (hts _ q1994) (fun _ h9 => h9) rfl dX5_append_117 ?_
                refine lv_iconst (v := 1) hx hb dX5_append_120 (by decide) ?_
                refine lv_iadd hx hb dX5_append_121 ?_
                refine va_put (D := (dC, dI)) (ci := 0) (v := .int ((((tw_sa σ 7 (((σ).1 8)).toNatClampNeg ((x4 >>> ((24 - (8 * (x6 - x6 / 4 * 4))) &&& 31)) &&& 255))).1 8) + 1)) (ty := .int) (C := RX5) (T := TX5) (N := 28) hx hb hts in_X5 tyX5 tyX5_ok nmX5 hown hK hP hD hS 0 tw_g rfl 8 (by decide) (hts _ q1994) (fun _ h9 => h9) rfl (tyX5_ok 8 (by decide)) rfl rfl (Nat.le_of_ble_eq_true rfl) dX5_append_122 (fun H locs hP hD hS => ?_)
                rw [tw_p8] at hP hD
                refine lv_iinc (v := (x6 + 1)) (lv' := [(6, .int (x6 + 1)), (7, .int x4), (0, .ref m0), (1, .int x1), (2, .int x2), (3, .int x3), (4, .int x4), (5, .int x5)]) hx hb dX5_append_125 hl (k := 7) rfl rfl (by decide) rfl (fun ls hl => ?_)
                refine lv_goto (tgt := 34) hx hb dX5_append_128 (by decide) ?_
                exact lp1 (tw_sf (tw_sa σ 7 (((σ).1 8)).toNatClampNeg ((x4 >>> ((24 - (8 * (x6 - x6 / 4 * 4))) &&& 31)) &&& 255)) 8 ((((tw_sa σ 7 (((σ).1 8)).toNatClampNeg ((x4 >>> ((24 - (8 * (x6 - x6 / 4 * 4))) &&& 31)) &&& 255))).1 8) + 1)) x1 x2 x3 x4 x5 (x6 + 1) x4 hF _ _ hP hD hS ls (lv_sub hl [2, 3, 4, 5, 6, 7, 0] rfl)
            · replace hF := it_f c7 hF
              refine lv_iload_n hx hb dX5_append_69 rfl (lv_at hl 3 rfl) ?_
              refine lv_goto (tgt := 87) hx hb dX5_append_70 (by decide) ?_
              refine lv_istore (lv' := [(7, .int x3), (0, .ref m0), (1, .int x1), (2, .int x2), (3, .int x3), (4, .int x4), (5, .int x5), (6, .int x6)]) hx hb dX5_append_87 hl (by decide) rfl (fun ls hl => ?_)
              refine lv_aload_n hx hb dX5_append_89 rfl (lv_at hl 1 rfl) ?_
              refine va_get (D := (dC, dI)) (ci := 0) (v := .ref (ad 7)) (C := RX5) (T := TX5) (N := 28) hx hb hts in_X5 hown hK hP 0 tw_g rfl 7 (by decide) (hts _ q1993) (fun _ h9 => h9) rfl dX5_append_90 ?_
              refine lv_aload_n hx hb dX5_append_93 rfl (lv_at hl 1 rfl) ?_
              refine va_get (D := (dC, dI)) (ci := 0) (v := .int ((σ).1 8)) (C := RX5) (T := TX5) (N := 28) hx hb hts in_X5 hown hK hP 0 tw_g rfl 8 (by decide) (hts _ q1994) (fun _ h9 => h9) rfl dX5_append_94 ?_
              refine lv_iload hx hb dX5_append_97 (lv_at hl 0 rfl) ?_
              refine lv_bipush (v := 24) hx hb dX5_append_99 (by decide) ?_
              refine lv_bipush (v := 8) hx hb dX5_append_101 (by decide) ?_
              refine lv_iload hx hb dX5_append_103 (lv_at hl 7 rfl) ?_
              refine lv_iconst (v := 4) hx hb dX5_append_105 (by decide) ?_
              obtain ⟨g13, hF⟩ := gd_s hF
              refine lv_irem hx hb dX5_append_106 (nz_of g13) ?_
              refine lv_imul hx hb dX5_append_107 ?_
              refine lv_isub hx hb dX5_append_108 ?_
              refine lv_ishr hx hb dX5_append_109 ?_
              refine lv_sipush (v := 255) hx hb dX5_append_110 (by decide) ?_
              refine lv_iand hx hb dX5_append_113 ?_
              obtain ⟨g14, hF⟩ := gd_s hF
              refine va_iast hx hb hK hP hD hS 6 0 tw_e7 rfl (x := ((x3 >>> ((24 - (8 * (x6 - x6 / 4 * 4))) &&& 31)) &&& 255)) (inB_in g14) dX5_append_114 (fun H locs hP hD hS => ?_)
              rw [tw_s7] at hP hD
              refine lv_aload_n hx hb dX5_append_115 rfl (lv_at hl 1 rfl) ?_
              refine lv_dup hx hb dX5_append_116 rfl ?_
              refine va_get (D := (dC, dI)) (ci := 0) (v := .int (((tw_sa σ 7 (((σ).1 8)).toNatClampNeg ((x3 >>> ((24 - (8 * (x6 - x6 / 4 * 4))) &&& 31)) &&& 255))).1 8)) (C := RX5) (T := TX5) (N := 28) hx hb hts in_X5 hown hK hP 0 tw_g rfl 8 (by decide) (hts _ q1994) (fun _ h9 => h9) rfl dX5_append_117 ?_
              refine lv_iconst (v := 1) hx hb dX5_append_120 (by decide) ?_
              refine lv_iadd hx hb dX5_append_121 ?_
              refine va_put (D := (dC, dI)) (ci := 0) (v := .int ((((tw_sa σ 7 (((σ).1 8)).toNatClampNeg ((x3 >>> ((24 - (8 * (x6 - x6 / 4 * 4))) &&& 31)) &&& 255))).1 8) + 1)) (ty := .int) (C := RX5) (T := TX5) (N := 28) hx hb hts in_X5 tyX5 tyX5_ok nmX5 hown hK hP hD hS 0 tw_g rfl 8 (by decide) (hts _ q1994) (fun _ h9 => h9) rfl (tyX5_ok 8 (by decide)) rfl rfl (Nat.le_of_ble_eq_true rfl) dX5_append_122 (fun H locs hP hD hS => ?_)
              rw [tw_p8] at hP hD
              refine lv_iinc (v := (x6 + 1)) (lv' := [(6, .int (x6 + 1)), (7, .int x3), (0, .ref m0), (1, .int x1), (2, .int x2), (3, .int x3), (4, .int x4), (5, .int x5)]) hx hb dX5_append_125 hl (k := 7) rfl rfl (by decide) rfl (fun ls hl => ?_)
              refine lv_goto (tgt := 34) hx hb dX5_append_128 (by decide) ?_
              exact lp1 (tw_sf (tw_sa σ 7 (((σ).1 8)).toNatClampNeg ((x3 >>> ((24 - (8 * (x6 - x6 / 4 * 4))) &&& 31)) &&& 255)) 8 ((((tw_sa σ 7 (((σ).1 8)).toNatClampNeg ((x3 >>> ((24 - (8 * (x6 - x6 / 4 * 4))) &&& 31)) &&& 255))).1 8) + 1)) x1 x2 x3 x4 x5 (x6 + 1) x3 hF _ _ hP hD hS ls (lv_sub hl [2, 3, 4, 5, 6, 7, 0] rfl)
          · replace hF := it_f c6 hF
            refine lv_iload_n hx hb dX5_append_58 rfl (lv_at hl 2 rfl) ?_
            refine lv_goto (tgt := 87) hx hb dX5_append_59 (by decide) ?_
            refine lv_istore (lv' := [(7, .int x2), (0, .ref m0), (1, .int x1), (2, .int x2), (3, .int x3), (4, .int x4), (5, .int x5), (6, .int x6)]) hx hb dX5_append_87 hl (by decide) rfl (fun ls hl => ?_)
            refine lv_aload_n hx hb dX5_append_89 rfl (lv_at hl 1 rfl) ?_
            refine va_get (D := (dC, dI)) (ci := 0) (v := .ref (ad 7)) (C := RX5) (T := TX5) (N := 28) hx hb hts in_X5 hown hK hP 0 tw_g rfl 7 (by decide) (hts _ q1993) (fun _ h9 => h9) rfl dX5_append_90 ?_
            refine lv_aload_n hx hb dX5_append_93 rfl (lv_at hl 1 rfl) ?_
            refine va_get (D := (dC, dI)) (ci := 0) (v := .int ((σ).1 8)) (C := RX5) (T := TX5) (N := 28) hx hb hts in_X5 hown hK hP 0 tw_g rfl 8 (by decide) (hts _ q1994) (fun _ h9 => h9) rfl dX5_append_94 ?_
            refine lv_iload hx hb dX5_append_97 (lv_at hl 0 rfl) ?_
            refine lv_bipush (v := 24) hx hb dX5_append_99 (by decide) ?_
            refine lv_bipush (v := 8) hx hb dX5_append_101 (by decide) ?_
            refine lv_iload hx hb dX5_append_103 (lv_at hl 7 rfl) ?_
            refine lv_iconst (v := 4) hx hb dX5_append_105 (by decide) ?_
            obtain ⟨g15, hF⟩ := gd_s hF
            refine lv_irem hx hb dX5_append_106 (nz_of g15) ?_
            refine lv_imul hx hb dX5_append_107 ?_
            refine lv_isub hx hb dX5_append_108 ?_
            refine lv_ishr hx hb dX5_append_109 ?_
            refine lv_sipush (v := 255) hx hb dX5_append_110 (by decide) ?_
            refine lv_iand hx hb dX5_append_113 ?_
            obtain ⟨g16, hF⟩ := gd_s hF
            refine va_iast hx hb hK hP hD hS 6 0 tw_e7 rfl (x := ((x2 >>> ((24 - (8 * (x6 - x6 / 4 * 4))) &&& 31)) &&& 255)) (inB_in g16) dX5_append_114 (fun H locs hP hD hS => ?_)
            rw [tw_s7] at hP hD
            refine lv_aload_n hx hb dX5_append_115 rfl (lv_at hl 1 rfl) ?_
            refine lv_dup hx hb dX5_append_116 rfl ?_
            refine va_get (D := (dC, dI)) (ci := 0) (v := .int (((tw_sa σ 7 (((σ).1 8)).toNatClampNeg ((x2 >>> ((24 - (8 * (x6 - x6 / 4 * 4))) &&& 31)) &&& 255))).1 8)) (C := RX5) (T := TX5) (N := 28) hx hb hts in_X5 hown hK hP 0 tw_g rfl 8 (by decide) (hts _ q1994) (fun _ h9 => h9) rfl dX5_append_117 ?_
            refine lv_iconst (v := 1) hx hb dX5_append_120 (by decide) ?_
            refine lv_iadd hx hb dX5_append_121 ?_
            refine va_put (D := (dC, dI)) (ci := 0) (v := .int ((((tw_sa σ 7 (((σ).1 8)).toNatClampNeg ((x2 >>> ((24 - (8 * (x6 - x6 / 4 * 4))) &&& 31)) &&& 255))).1 8) + 1)) (ty := .int) (C := RX5) (T := TX5) (N := 28) hx hb hts in_X5 tyX5 tyX5_ok nmX5 hown hK hP hD hS 0 tw_g rfl 8 (by decide) (hts _ q1994) (fun _ h9 => h9) rfl (tyX5_ok 8 (by decide)) rfl rfl (Nat.le_of_ble_eq_true rfl) dX5_append_122 (fun H locs hP hD hS => ?_)
            rw [tw_p8] at hP hD
            refine lv_iinc (v := (x6 + 1)) (lv' := [(6, .int (x6 + 1)), (7, .int x2), (0, .ref m0), (1, .int x1), (2, .int x2), (3, .int x3), (4, .int x4), (5, .int x5)]) hx hb dX5_append_125 hl (k := 7) rfl rfl (by decide) rfl (fun ls hl => ?_)
            refine lv_goto (tgt := 34) hx hb dX5_append_128 (by decide) ?_
            exact lp1 (tw_sf (tw_sa σ 7 (((σ).1 8)).toNatClampNeg ((x2 >>> ((24 - (8 * (x6 - x6 / 4 * 4))) &&& 31)) &&& 255)) 8 ((((tw_sa σ 7 (((σ).1 8)).toNatClampNeg ((x2 >>> ((24 - (8 * (x6 - x6 / 4 * 4))) &&& 31)) &&& 255))).1 8) + 1)) x1 x2 x3 x4 x5 (x6 + 1) x2 hF _ _ hP hD hS ls (lv_sub hl [2, 3, 4, 5, 6, 7, 0] rfl)
        · replace hF := it_f c5 hF
          refine lv_iload_n hx hb dX5_append_47 rfl (lv_at hl 1 rfl) ?_
          refine lv_goto (tgt := 87) hx hb dX5_append_48 (by decide) ?_
          refine lv_istore (lv' := [(7, .int x1), (0, .ref m0), (1, .int x1), (2, .int x2), (3, .int x3), (4, .int x4), (5, .int x5), (6, .int x6)]) hx hb dX5_append_87 hl (by decide) rfl (fun ls hl => ?_)
          refine lv_aload_n hx hb dX5_append_89 rfl (lv_at hl 1 rfl) ?_
          refine va_get (D := (dC, dI)) (ci := 0) (v := .ref (ad 7)) (C := RX5) (T := TX5) (N := 28) hx hb hts in_X5 hown hK hP 0 tw_g rfl 7 (by decide) (hts _ q1993) (fun _ h9 => h9) rfl dX5_append_90 ?_
          refine lv_aload_n hx hb dX5_append_93 rfl (lv_at hl 1 rfl) ?_
          refine va_get (D := (dC, dI)) (ci := 0) (v := .int ((σ).1 8)) (C := RX5) (T := TX5) (N := 28) hx hb hts in_X5 hown hK hP 0 tw_g rfl 8 (by decide) (hts _ q1994) (fun _ h9 => h9) rfl dX5_append_94 ?_
          refine lv_iload hx hb dX5_append_97 (lv_at hl 0 rfl) ?_
          refine lv_bipush (v := 24) hx hb dX5_append_99 (by decide) ?_
          refine lv_bipush (v := 8) hx hb dX5_append_101 (by decide) ?_
          refine lv_iload hx hb dX5_append_103 (lv_at hl 7 rfl) ?_
          refine lv_iconst (v := 4) hx hb dX5_append_105 (by decide) ?_
          obtain ⟨g17, hF⟩ := gd_s hF
          refine lv_irem hx hb dX5_append_106 (nz_of g17) ?_
          refine lv_imul hx hb dX5_append_107 ?_
          refine lv_isub hx hb dX5_append_108 ?_
          refine lv_ishr hx hb dX5_append_109 ?_
          refine lv_sipush (v := 255) hx hb dX5_append_110 (by decide) ?_
          refine lv_iand hx hb dX5_append_113 ?_
          obtain ⟨g18, hF⟩ := gd_s hF
          refine va_iast hx hb hK hP hD hS 6 0 tw_e7 rfl (x := ((x1 >>> ((24 - (8 * (x6 - x6 / 4 * 4))) &&& 31)) &&& 255)) (inB_in g18) dX5_append_114 (fun H locs hP hD hS => ?_)
          rw [tw_s7] at hP hD
          refine lv_aload_n hx hb dX5_append_115 rfl (lv_at hl 1 rfl) ?_
          refine lv_dup hx hb dX5_append_116 rfl ?_
          refine va_get (D := (dC, dI)) (ci := 0) (v := .int (((tw_sa σ 7 (((σ).1 8)).toNatClampNeg ((x1 >>> ((24 - (8 * (x6 - x6 / 4 * 4))) &&& 31)) &&& 255))).1 8)) (C := RX5) (T := TX5) (N := 28) hx hb hts in_X5 hown hK hP 0 tw_g rfl 8 (by decide) (hts _ q1994) (fun _ h9 => h9) rfl dX5_append_117 ?_
          refine lv_iconst (v := 1) hx hb dX5_append_120 (by decide) ?_
          refine lv_iadd hx hb dX5_append_121 ?_
          refine va_put (D := (dC, dI)) (ci := 0) (v := .int ((((tw_sa σ 7 (((σ).1 8)).toNatClampNeg ((x1 >>> ((24 - (8 * (x6 - x6 / 4 * 4))) &&& 31)) &&& 255))).1 8) + 1)) (ty := .int) (C := RX5) (T := TX5) (N := 28) hx hb hts in_X5 tyX5 tyX5_ok nmX5 hown hK hP hD hS 0 tw_g rfl 8 (by decide) (hts _ q1994) (fun _ h9 => h9) rfl (tyX5_ok 8 (by decide)) rfl rfl (Nat.le_of_ble_eq_true rfl) dX5_append_122 (fun H locs hP hD hS => ?_)
          rw [tw_p8] at hP hD
          refine lv_iinc (v := (x6 + 1)) (lv' := [(6, .int (x6 + 1)), (7, .int x1), (0, .ref m0), (1, .int x1), (2, .int x2), (3, .int x3), (4, .int x4), (5, .int x5)]) hx hb dX5_append_125 hl (k := 7) rfl rfl (by decide) rfl (fun ls hl => ?_)
          refine lv_goto (tgt := 34) hx hb dX5_append_128 (by decide) ?_
          exact lp1 (tw_sf (tw_sa σ 7 (((σ).1 8)).toNatClampNeg ((x1 >>> ((24 - (8 * (x6 - x6 / 4 * 4))) &&& 31)) &&& 255)) 8 ((((tw_sa σ 7 (((σ).1 8)).toNatClampNeg ((x1 >>> ((24 - (8 * (x6 - x6 / 4 * 4))) &&& 31)) &&& 255))).1 8) + 1)) x1 x2 x3 x4 x5 (x6 + 1) x1 hF _ _ hP hD hS ls (lv_sub hl [2, 3, 4, 5, 6, 7, 0] rfl)
  have lp1 := loop n
  unfold F_append F_append_0 at hF
  refine lv_aload_n hx hb dX5_append_0 rfl (lv_at hl 0 rfl) ?_
  refine lv_aload_n hx hb dX5_append_1 rfl (lv_at hl 0 rfl) ?_
  refine va_get (D := (dC, dI)) (ci := 0) (v := .int ((σ).1 8)) (C := RX5) (T := TX5) (N := 28) hx hb hts in_X5 hown hK hP 0 tw_g rfl 8 (by decide) (hts _ q1994) (fun _ h9 => h9) rfl dX5_append_2 ?_
  refine lv_bipush (v := 20) hx hb dX5_append_5 (by decide) ?_
  refine lv_iadd hx hb dX5_append_7 ?_
  refine lv_sipush (v := 800) hx hb dX5_append_8 (by decide) ?_
  refine lv_icmp_le (tgt := 18) hx hb dX5_append_11 (by decide) (fun c1 => ?_) (fun c1 => ?_)
  · replace hF := it_t c1 hF
    refine lv_iconst (v := 0) hx hb dX5_append_18 (by decide) ?_
    refine va_put (D := (dC, dI)) (ci := 0) (v := .int 0) (ty := .int) (C := RX5) (T := TX5) (N := 28) hx hb hts in_X5 tyX5 tyX5_ok nmX5 hown hK hP hD hS 0 tw_g rfl 6 (by decide) (hts _ q1992) (fun _ h9 => h9) rfl (tyX5_ok 6 (by decide)) rfl rfl (Nat.le_of_ble_eq_true rfl) dX5_append_19 (fun H locs hP hD hS => ?_)
    rw [tw_p6] at hP hD
    refine lv_aload_n hx hb dX5_append_22 rfl (lv_at hl 0 rfl) ?_
    refine va_get (D := (dC, dI)) (ci := 0) (v := .int (((tw_sf σ 6 0)).1 6)) (C := RX5) (T := TX5) (N := 28) hx hb hts in_X5 hown hK hP 0 tw_g rfl 6 (by decide) (hts _ q1992) (fun _ h9 => h9) rfl dX5_append_23 ?_
    refine lv_if_le (tgt := 31) hx hb dX5_append_26 (by decide) (fun c2 => ?_) (fun c2 => ?_)
    · replace hF := it_t c2 hF
      refine lv_iconst (v := 0) hx hb dX5_append_31 (by decide) ?_
      refine lv_istore (lv' := [(6, .int 0), (0, .ref m0), (1, .int p1), (2, .int p2), (3, .int p3), (4, .int p4), (5, .int p5)]) hx hb dX5_append_32 hl (by decide) rfl (fun ls hl => ?_)
      exact lp1 (tw_sf σ 6 0) p1 p2 p3 p4 p5 0 0 hF _ _ hP hD hS ls (lv_sub hl [1, 2, 3, 4, 5, 6, 0] rfl)
    · replace hF := it_f c2 hF
      refine lv_iconst (v := 0) hx hb dX5_append_29 (by decide) ?_
      exact W.iret (v := 0) hx hb hr (fun t ht hW => ⟨⟨0, (tw_sf σ 6 0), rfl, Option.some.inj hF, by rw [ht]; exact hP, va_K.moved hW.alike hK⟩, hS.F ht⟩) hS.2.2 dX5_append_30
  · replace hF := it_f c1 hF
    refine lv_iconst (v := 1) hx hb dX5_append_14 (by decide) ?_
    refine lv_goto (tgt := 19) hx hb dX5_append_15 (by decide) ?_
    refine va_put (D := (dC, dI)) (ci := 0) (v := .int 1) (ty := .int) (C := RX5) (T := TX5) (N := 28) hx hb hts in_X5 tyX5 tyX5_ok nmX5 hown hK hP hD hS 0 tw_g rfl 6 (by decide) (hts _ q1992) (fun _ h9 => h9) rfl (tyX5_ok 6 (by decide)) rfl rfl (Nat.le_of_ble_eq_true rfl) dX5_append_19 (fun H locs hP hD hS => ?_)
    rw [tw_p6] at hP hD
    refine lv_aload_n hx hb dX5_append_22 rfl (lv_at hl 0 rfl) ?_
    refine va_get (D := (dC, dI)) (ci := 0) (v := .int (((tw_sf σ 6 1)).1 6)) (C := RX5) (T := TX5) (N := 28) hx hb hts in_X5 hown hK hP 0 tw_g rfl 6 (by decide) (hts _ q1992) (fun _ h9 => h9) rfl dX5_append_23 ?_
    refine lv_if_le (tgt := 31) hx hb dX5_append_26 (by decide) (fun c3 => ?_) (fun c3 => ?_)
    · replace hF := it_t c3 hF
      refine lv_iconst (v := 0) hx hb dX5_append_31 (by decide) ?_
      refine lv_istore (lv' := [(6, .int 0), (0, .ref m0), (1, .int p1), (2, .int p2), (3, .int p3), (4, .int p4), (5, .int p5)]) hx hb dX5_append_32 hl (by decide) rfl (fun ls hl => ?_)
      exact lp1 (tw_sf σ 6 1) p1 p2 p3 p4 p5 0 0 hF _ _ hP hD hS ls (lv_sub hl [1, 2, 3, 4, 5, 6, 0] rfl)
    · replace hF := it_f c3 hF
      refine lv_iconst (v := 0) hx hb dX5_append_29 (by decide) ?_
      exact W.iret (v := 0) hx hb hr (fun t ht hW => ⟨⟨0, (tw_sf σ 6 1), rfl, Option.some.inj hF, by rw [ht]; exact hP, va_K.moved hW.alike hK⟩, hS.F ht⟩) hS.2.2 dX5_append_30

def F_see (σ : Tw) (p1 : Int32) : Option (Int32 × Tw) := if ((σ).1 9) ≤ p1 then some ((-1), σ) else gd (inB p1 800) (some (((σ).2 7 (p1).toNatClampNeg), σ))
set_option maxHeartbeats 4000000 in
set_option maxRecDepth 100000 in
theorem mt_see (l : Launch) (dC : Nat → ClassId) (dI : Nat → Nat → Nat) (cI cZ : ClassId) (m0 : Nat) (ad : Nat → Nat) (sz : Nat) (σ : Tw)  (p1 : Int32) (out : Int32 × Tw) (hF : F_see σ p1 = some out) : Met l yX5_see (ws_ yX5_see cX5_see 2 (some .int)) ({ frames := 0, cells := 0, slots := 0, locals := 0 }) (va_Pc [.ref m0, .int p1] (tw_Pre dC dI cI cZ m0 ad sz σ)) (va_Qi (fun r u => (r, u) = out) (tw_B dC dI cI cZ m0 ad) (tw_A m0 ad sz)) 0 0 (tw_A m0 ad sz) := by
  refine Met.ofW (cc := cX5_see) (maxL := 2) (ret := (some .int)) (by decide +kernel) rfl ?_
  intro p e s m args below meth c s₁ B hml hv
  obtain ⟨rfl, hsz, hP, hK, hD0⟩ := hv
  have hx := B.exec
  have hb := B.bytes
  have hr := B.returns
  have hts := atoms_spec (ws := (ws_ yX5_see cX5_see 2 (some .int))) B.pre
  have hts : ∀ w ∈ lw_all, w.before _ s = true := fun w h => hts w (List.mem_cons_of_mem _ h)
  have hown : s.vm.findClass RX5 = some m.cls := findClass_of_methodNamed B.named
  have hlocks := B.notSynchronized
  subst hsz
  have hD := tw_Ds (z := s.heap.size) hD0
  have hAA := fun z (h : s.heap.size ≤ z) => tw_Am (m0 := m0) (ad := ad) h
  generalize hAe : tw_A m0 ad s.heap.size = A at hD hAA ⊢
  have hS : va_S A s.heap s.heap [] := va_S.rf
  have hP : va_P (dC, dI) vwCl (tw_ws m0 ad cI cZ σ) s.heap := hP
  have hl := lv_entry ([.ref m0, .int p1]) (n := 2) (Nat.le_of_ble_eq_true rfl)
  rw [lg_entry_eq]
  generalize (lg_sl ([.ref m0, .int p1]) ++ List.replicate (2 - (lg_sl ([.ref m0, .int p1])).length) Slot.unset).toArray = ls at hl ⊢
  have hl : lv_has ls 2 [(0, .ref m0), (1, .int p1)] := hl
  unfold F_see at hF
  refine lv_iload_n hx hb dX5_see_0 rfl (lv_at hl 1 rfl) ?_
  refine lv_aload_n hx hb dX5_see_1 rfl (lv_at hl 0 rfl) ?_
  refine va_get (D := (dC, dI)) (ci := 0) (v := .int ((σ).1 9)) (C := RX5) (T := TX5) (N := 28) hx hb hts in_X5 hown hK hP 0 tw_g rfl 9 (by decide) (hts _ q1995) (fun _ h9 => h9) rfl dX5_see_2 ?_
  refine lv_icmp_ge (tgt := 17) hx hb dX5_see_5 (by decide) (fun c1 => ?_) (fun c1 => ?_)
  · replace hF := it_t c1 hF
    refine lv_iconst (v := (-1)) hx hb dX5_see_17 (by decide) ?_
    exact W.iret (v := (-1)) hx hb hr (fun t ht hW => ⟨⟨(-1), σ, rfl, Option.some.inj hF, by rw [ht]; exact hP, va_K.moved hW.alike hK⟩, hS.F ht⟩) hS.2.2 dX5_see_18
  · replace hF := it_f c1 hF
    refine lv_aload_n hx hb dX5_see_8 rfl (lv_at hl 0 rfl) ?_
    refine va_get (D := (dC, dI)) (ci := 0) (v := .ref (ad 7)) (C := RX5) (T := TX5) (N := 28) hx hb hts in_X5 hown hK hP 0 tw_g rfl 7 (by decide) (hts _ q1993) (fun _ h9 => h9) rfl dX5_see_9 ?_
    refine lv_iload_n hx hb dX5_see_12 rfl (lv_at hl 1 rfl) ?_
    obtain ⟨g2, hF⟩ := gd_s hF
    refine va_iald hx hb hK hP 6 0 tw_e7 rfl (inB_in g2) dX5_see_13 ?_
    refine lv_goto (tgt := 18) hx hb dX5_see_14 (by decide) ?_
    exact W.iret (v := ((σ).2 7 (p1).toNatClampNeg)) hx hb hr (fun t ht hW => ⟨⟨((σ).2 7 (p1).toNatClampNeg), σ, rfl, Option.some.inj hF, by rw [ht]; exact hP, va_K.moved hW.alike hK⟩, hS.F ht⟩) hS.2.2 dX5_see_18

def F_isLetter (σ : Tw) (p0 : Int32) : Option (Int32 × Tw) := bnd (F_isIn σ p0 97 122) (fun r1 u1 => gd (zbB r1) (some (r1, u1)))
set_option maxHeartbeats 4000000 in
set_option maxRecDepth 100000 in
theorem mt_isLetter (l : Launch) (dC : Nat → ClassId) (dI : Nat → Nat → Nat) (cI cZ : ClassId) (m0 : Nat) (ad : Nat → Nat) (sz : Nat) (σ : Tw)  (p0 : Int32) (out : Int32 × Tw) (hF : F_isLetter σ p0 = some out) : Met l yX5_isLetter (ws_ yX5_isLetter cX5_isLetter 1 (some .boolean)) ({ frames := 1, cells := 0, slots := 0, locals := 22 }) (va_Pc [.int p0] (tw_Pre dC dI cI cZ m0 ad sz σ)) (va_Qi (fun r u => (r, u) = out) (tw_B dC dI cI cZ m0 ad) (tw_A m0 ad sz)) 0 0 (tw_A m0 ad sz) := by
  refine Met.ofW (cc := cX5_isLetter) (maxL := 1) (ret := (some .boolean)) (by decide +kernel) rfl ?_
  intro p e s m args below meth c s₁ B hml hv
  obtain ⟨rfl, hsz, hP, hK, hD0⟩ := hv
  have hx := B.exec
  have hb := B.bytes
  have hr := B.returns
  have hts := atoms_spec (ws := (ws_ yX5_isLetter cX5_isLetter 1 (some .boolean))) B.pre
  have hts : ∀ w ∈ lw_all, w.before _ s = true := fun w h => hts w (List.mem_cons_of_mem _ h)
  have hown : s.vm.findClass RX5 = some m.cls := findClass_of_methodNamed B.named
  have hlocks := B.notSynchronized
  subst hsz
  have hD := tw_Ds (z := s.heap.size) hD0
  have hAA := fun z (h : s.heap.size ≤ z) => tw_Am (m0 := m0) (ad := ad) h
  generalize hAe : tw_A m0 ad s.heap.size = A at hD hAA ⊢
  have hS : va_S A s.heap s.heap [] := va_S.rf
  have hP : va_P (dC, dI) vwCl (tw_ws m0 ad cI cZ σ) s.heap := hP
  have hl := lv_entry ([.int p0]) (n := 1) (Nat.le_of_ble_eq_true rfl)
  rw [lg_entry_eq]
  generalize (lg_sl ([.int p0]) ++ List.replicate (1 - (lg_sl ([.int p0])).length) Slot.unset).toArray = ls at hl ⊢
  have hl : lv_has ls 1 [(0, .int p0)] := hl
  unfold F_isLetter at hF
  refine lv_iload_n hx hb dX5_isLetter_0 rfl (lv_at hl 0 rfl) ?_
  refine lv_bipush (v := 97) hx hb dX5_isLetter_1 (by decide) ?_
  refine lv_bipush (v := 122) hx hb dX5_isLetter_3 (by decide) ?_
  obtain ⟨r1, u1, e1, hF⟩ := bnd_s hF
  refine tw_calli (va_runS (As := [.int p0, .int 97, .int 122]) (rest := []) ⟨hx, hb, hml, hown, hts⟩ (mt_isIn l dC dI cI cZ m0 ad s.heap.size σ  p0 97 122 _ e1) (va_cwS 3 hts (lw_S q2084 q2085 q125 q2086) rfl rfl rfl (by decide +kernel) ⟨Nat.le_of_ble_eq_true rfl, Nat.le_of_ble_eq_true rfl⟩) (tw_preS hK hP hD _) rfl rfl hl.1 rfl (lv_room (Nat.le_of_ble_eq_true rfl)) dX5_isLetter_5 ⟨Nat.le_of_ble_eq_true rfl, Nat.le_of_ble_eq_true rfl⟩) hS hD hAA (fun rr uu H locs hw hP hD hS => ?_)
  obtain rfl : r1 = rr := (congrArg Prod.fst hw).symm
  obtain rfl : u1 = uu := (congrArg Prod.snd hw).symm
  obtain ⟨g2, hF⟩ := gd_s hF
  exact W.zret (v := r1) hx hb hr (zb_of g2) (fun t ht hW => ⟨⟨r1, u1, rfl, Option.some.inj hF, by rw [ht]; exact hP, va_K.moved hW.alike hK⟩, hS.F ht⟩) hS.2.2 dX5_isLetter_8

def F_isDigit (σ : Tw) (p0 : Int32) : Option (Int32 × Tw) := bnd (F_isIn σ p0 48 57) (fun r1 u1 => gd (zbB r1) (some (r1, u1)))
set_option maxHeartbeats 4000000 in
set_option maxRecDepth 100000 in
theorem mt_isDigit (l : Launch) (dC : Nat → ClassId) (dI : Nat → Nat → Nat) (cI cZ : ClassId) (m0 : Nat) (ad : Nat → Nat) (sz : Nat) (σ : Tw)  (p0 : Int32) (out : Int32 × Tw) (hF : F_isDigit σ p0 = some out) : Met l yX5_isDigit (ws_ yX5_isDigit cX5_isDigit 1 (some .boolean)) ({ frames := 1, cells := 0, slots := 0, locals := 22 }) (va_Pc [.int p0] (tw_Pre dC dI cI cZ m0 ad sz σ)) (va_Qi (fun r u => (r, u) = out) (tw_B dC dI cI cZ m0 ad) (tw_A m0 ad sz)) 0 0 (tw_A m0 ad sz) := by
  refine Met.ofW (cc := cX5_isDigit) (maxL := 1) (ret := (some .boolean)) (by decide +kernel) rfl ?_
  intro p e s m args below meth c s₁ B hml hv
  obtain ⟨rfl, hsz, hP, hK, hD0⟩ := hv
  have hx := B.exec
  have hb := B.bytes
  have hr := B.returns
  have hts := atoms_spec (ws := (ws_ yX5_isDigit cX5_isDigit 1 (some .boolean))) B.pre
  have hts : ∀ w ∈ lw_all, w.before _ s = true := fun w h => hts w (List.mem_cons_of_mem _ h)
  have hown : s.vm.findClass RX5 = some m.cls := findClass_of_methodNamed B.named
  have hlocks := B.notSynchronized
  subst hsz
  have hD := tw_Ds (z := s.heap.size) hD0
  have hAA := fun z (h : s.heap.size ≤ z) => tw_Am (m0 := m0) (ad := ad) h
  generalize hAe : tw_A m0 ad s.heap.size = A at hD hAA ⊢
  have hS : va_S A s.heap s.heap [] := va_S.rf
  have hP : va_P (dC, dI) vwCl (tw_ws m0 ad cI cZ σ) s.heap := hP
  have hl := lv_entry ([.int p0]) (n := 1) (Nat.le_of_ble_eq_true rfl)
  rw [lg_entry_eq]
  generalize (lg_sl ([.int p0]) ++ List.replicate (1 - (lg_sl ([.int p0])).length) Slot.unset).toArray = ls at hl ⊢
  have hl : lv_has ls 1 [(0, .int p0)] := hl
  unfold F_isDigit at hF
  refine lv_iload_n hx hb dX5_isDigit_0 rfl (lv_at hl 0 rfl) ?_
  refine lv_bipush (v := 48) hx hb dX5_isDigit_1 (by decide) ?_
  refine lv_bipush (v := 57) hx hb dX5_isDigit_3 (by decide) ?_
  obtain ⟨r1, u1, e1, hF⟩ := bnd_s hF
  refine tw_calli (va_runS (As := [.int p0, .int 48, .int 57]) (rest := []) ⟨hx, hb, hml, hown, hts⟩ (mt_isIn l dC dI cI cZ m0 ad s.heap.size σ  p0 48 57 _ e1) (va_cwS 3 hts (lw_S q2084 q2085 q125 q2086) rfl rfl rfl (by decide +kernel) ⟨Nat.le_of_ble_eq_true rfl, Nat.le_of_ble_eq_true rfl⟩) (tw_preS hK hP hD _) rfl rfl hl.1 rfl (lv_room (Nat.le_of_ble_eq_true rfl)) dX5_isDigit_5 ⟨Nat.le_of_ble_eq_true rfl, Nat.le_of_ble_eq_true rfl⟩) hS hD hAA (fun rr uu H locs hw hP hD hS => ?_)
  obtain rfl : r1 = rr := (congrArg Prod.fst hw).symm
  obtain rfl : u1 = uu := (congrArg Prod.snd hw).symm
  obtain ⟨g2, hF⟩ := gd_s hF
  exact W.zret (v := r1) hx hb hr (zb_of g2) (fun t ht hW => ⟨⟨r1, u1, rfl, Option.some.inj hF, by rw [ht]; exact hP, va_K.moved hW.alike hK⟩, hS.F ht⟩) hS.2.2 dX5_isDigit_8

def F_next_1 (R : Nat → Tw → Option (Int32 × Tw)) (n : Nat) (σ : Tw) : Option (Int32 × Tw) := bnd (F_see σ ((σ).1 10)) (fun r1 u1 => if r1 = 32 then R 1 (tw_sf u1 10 (((u1).1 10) + 1))  else if (((tw_sf u1 11 ((u1).1 10))).1 10) < (((tw_sf u1 11 ((u1).1 10))).1 9) then bnd (F_see (tw_sf u1 11 ((u1).1 10)) (((tw_sf u1 11 ((u1).1 10))).1 10)) (fun r4 u4 => bnd (F_isLetter u4 r4) (fun r5 u5 => if r5 = 0 then bnd (F_see u5 ((u5).1 10)) (fun r7 u7 => bnd (F_isDigit u7 r7) (fun r8 u8 => if r8 = 0 then some (0, (tw_sf (tw_sf u8 11 (((u8).1 11) + 1)) 12 2)) else R 3 (tw_sf u8 13 0) )) else R 2 u5 )) else some (0, (tw_sf (tw_sf u1 11 ((u1).1 10)) 12 3)))
def F_next_2 (R : Nat → Tw → Option (Int32 × Tw)) (n : Nat) (σ : Tw) : Option (Int32 × Tw) := bnd (F_see σ ((σ).1 11)) (fun r10 u10 => bnd (F_isLetter u10 r10) (fun r11 u11 => if r11 = 0 then some (0, (tw_sf u11 12 0)) else R 2 (tw_sf u11 11 (((u11).1 11) + 1)) ))
def F_next_3 (R : Nat → Tw → Option (Int32 × Tw)) (n : Nat) (σ : Tw) : Option (Int32 × Tw) := bnd (F_see σ ((σ).1 11)) (fun r13 u13 => bnd (F_isDigit u13 r13) (fun r14 u14 => if r14 = 0 then some (0, (tw_sf u14 12 1)) else if 1000 ≤ ((u14).1 13) then R 3 (tw_sf u14 11 (((u14).1 11) + 1))  else bnd (F_see u14 ((u14).1 11)) (fun r17 u17 => R 3 (tw_sf (tw_sf u17 13 (((10 * ((u14).1 13)) + r17) - 48)) 11 ((((tw_sf u17 13 (((10 * ((u14).1 13)) + r17) - 48))).1 11) + 1)) )))
def F_next_r : Nat → Nat → Tw → Option (Int32 × Tw)
  | 0 => fun _ _  => none
  | n + 1 => fun k => match k with | 1 => F_next_1 (F_next_r n) n | 2 => F_next_2 (F_next_r n) n | _ => F_next_3 (F_next_r n) n
def F_next_0 (R : Nat → Tw → Option (Int32 × Tw)) (n : Nat) (σ : Tw) : Option (Int32 × Tw) := R 1 (tw_sf σ 10 ((σ).1 11)) 
def F_next (n : Nat) (σ : Tw) : Option (Int32 × Tw) := F_next_0 (F_next_r n) n σ 
set_option maxHeartbeats 4000000 in
set_option maxRecDepth 100000 in
theorem mt_next (l : Launch) (dC : Nat → ClassId) (dI : Nat → Nat → Nat) (cI cZ : ClassId) (m0 : Nat) (ad : Nat → Nat) (sz : Nat) (σ : Tw) (n : Nat)  (out : Int32 × Tw) (hF : F_next n σ  = some out) : Met l yX5_next (ws_ yX5_next cX5_next 1 none) ({ frames := 2, cells := 0, slots := 0, locals := 42 }) (va_Pc [.ref m0] (tw_Pre dC dI cI cZ m0 ad sz σ)) (va_Qv (fun u => (0, u) = out) (tw_B dC dI cI cZ m0 ad) (tw_A m0 ad sz)) 0 0 (tw_A m0 ad sz) := by
  refine Met.ofW (cc := cX5_next) (maxL := 1) (ret := none) (by decide +kernel) rfl ?_
  intro p e s m args below meth c s₁ B hml hv
  obtain ⟨rfl, hsz, hP, hK, hD0⟩ := hv
  have hx := B.exec
  have hb := B.bytes
  have hr := B.returns
  have hts := atoms_spec (ws := (ws_ yX5_next cX5_next 1 none)) B.pre
  have hts : ∀ w ∈ lw_all, w.before _ s = true := fun w h => hts w (List.mem_cons_of_mem _ h)
  have hown : s.vm.findClass RX5 = some m.cls := findClass_of_methodNamed B.named
  have hlocks := B.notSynchronized
  subst hsz
  have hD := tw_Ds (z := s.heap.size) hD0
  have hAA := fun z (h : s.heap.size ≤ z) => tw_Am (m0 := m0) (ad := ad) h
  generalize hAe : tw_A m0 ad s.heap.size = A at hD hAA ⊢
  have hS : va_S A s.heap s.heap [] := va_S.rf
  have hP : va_P (dC, dI) vwCl (tw_ws m0 ad cI cZ σ) s.heap := hP
  have hl := lv_entry ([.ref m0]) (n := 1) (Nat.le_of_ble_eq_true rfl)
  rw [lg_entry_eq]
  generalize (lg_sl ([.ref m0]) ++ List.replicate (1 - (lg_sl ([.ref m0])).length) Slot.unset).toArray = ls at hl ⊢
  have hl : lv_has ls 1 [(0, .ref m0)] := hl
  have loop : ∀ n : Nat, (∀ (σ : Tw), F_next_r n 1 σ  = some out → ∀ (H : Heap) (locs : List Loc), va_P (dC, dI) vwCl (tw_ws m0 ad cI cZ σ) H → va_D A (tw_ws m0 ad cI cZ σ) → va_S A s.heap H locs → ∀ ls : Array Slot, lv_has ls 1 [(0, .ref m0)] → W p l e (headSpec (ws_ yX5_next cX5_next 1 none) ({ frames := 2, cells := 0, slots := 0, locals := 42 })).room s m ([.ref m0] : List Value).toArray below meth c H locs 0 0 (MQ below (va_Qv (fun u => (0, u) = out) (tw_B dC dI cI cZ m0 ad) A) ([.ref m0] : List Value).toArray s 0 0 A) (F0 m 8 ls [])) ∧ (∀ (σ : Tw), F_next_r n 2 σ  = some out → ∀ (H : Heap) (locs : List Loc), va_P (dC, dI) vwCl (tw_ws m0 ad cI cZ σ) H → va_D A (tw_ws m0 ad cI cZ σ) → va_S A s.heap H locs → ∀ ls : Array Slot, lv_has ls 1 [(0, .ref m0)] → W p l e (headSpec (ws_ yX5_next cX5_next 1 none) ({ frames := 2, cells := 0, slots := 0, locals := 42 })).room s m ([.ref m0] : List Value).toArray below meth c H locs 0 0 (MQ below (va_Qv (fun u => (0, u) = out) (tw_B dC dI cI cZ m0 ad) A) ([.ref m0] : List Value).toArray s 0 0 A) (F0 m 75 ls [])) ∧ (∀ (σ : Tw), F_next_r n 3 σ  = some out → ∀ (H : Heap) (locs : List Loc), va_P (dC, dI) vwCl (tw_ws m0 ad cI cZ σ) H → va_D A (tw_ws m0 ad cI cZ σ) → va_S A s.heap H locs → ∀ ls : Array Slot, lv_has ls 1 [(0, .ref m0)] → W p l e (headSpec (ws_ yX5_next cX5_next 1 none) ({ frames := 2, cells := 0, slots := 0, locals := 42 })).room s m ([.ref m0] : List Value).toArray below meth c H locs 0 0 (MQ below (va_Qv (fun u => (0, u) = out) (tw_B dC dI cI cZ m0 ad) A) ([.ref m0] : List Value).toArray s 0 0 A) (F0 m 129 ls [])) := by
    intro n
    induction n with
    | zero => exact ⟨(fun _  h => nomatch h), (fun _  h => nomatch h), (fun _  h => nomatch h)⟩
    | succ n ih =>
      obtain ⟨lp1, lp2, lp3⟩ := ih
      refine ⟨?_, ?_, ?_⟩
      · intro σ  hF H locs hP hD hS ls hl
        replace hF : F_next_1 (F_next_r n) n σ  = some out := hF
        unfold F_next_1 at hF
        refine lv_aload_n hx hb dX5_next_8 rfl (lv_at hl 0 rfl) ?_
        refine lv_aload_n hx hb dX5_next_9 rfl (lv_at hl 0 rfl) ?_
        refine va_get (D := (dC, dI)) (ci := 0) (v := .int ((σ).1 10)) (C := RX5) (T := TX5) (N := 28) hx hb hts in_X5 hown hK hP 0 tw_g rfl 10 (by decide) (hts _ q1996) (fun _ h9 => h9) rfl dX5_next_10 ?_
        obtain ⟨r1, u1, e1, hF⟩ := bnd_s hF
        refine tw_calli (va_runV (As := [.int ((σ).1 10)]) (rest := []) ⟨hx, hb, hml, hown, hts⟩ (mt_see l dC dI cI cZ m0 ad H.size σ  ((σ).1 10) _ e1) (cwV 1 hts (lw_V q2107 q2109 qs48 q125 q2110) rfl rfl rfl (by decide +kernel) ⟨Nat.le_of_ble_eq_true rfl, Nat.le_of_ble_eq_true rfl⟩) (tw_preV hK hP hD _) rfl rfl hl.1 rfl (lv_room (Nat.le_of_ble_eq_true rfl)) dX5_next_13 ⟨Nat.le_of_ble_eq_true rfl, Nat.le_of_ble_eq_true rfl⟩) hS hD hAA (fun rr uu H locs hw hP hD hS => ?_)
        obtain rfl : r1 = rr := (congrArg Prod.fst hw).symm
        obtain rfl : u1 = uu := (congrArg Prod.snd hw).symm
        refine lv_bipush (v := 32) hx hb dX5_next_16 (by decide) ?_
        refine lv_icmp_ne (tgt := 34) hx hb dX5_next_18 (by decide) (fun c2 => ?_) (fun c2 => ?_)
        · replace hF := it_f c2 hF
          refine lv_aload_n hx hb dX5_next_34 rfl (lv_at hl 0 rfl) ?_
          refine lv_aload_n hx hb dX5_next_35 rfl (lv_at hl 0 rfl) ?_
          refine va_get (D := (dC, dI)) (ci := 0) (v := .int ((u1).1 10)) (C := RX5) (T := TX5) (N := 28) hx hb hts in_X5 hown hK hP 0 tw_g rfl 10 (by decide) (hts _ q1996) (fun _ h9 => h9) rfl dX5_next_36 ?_
          refine va_put (D := (dC, dI)) (ci := 0) (v := .int ((u1).1 10)) (ty := .int) (C := RX5) (T := TX5) (N := 28) hx hb hts in_X5 tyX5 tyX5_ok nmX5 hown hK hP hD hS 0 tw_g rfl 11 (by decide) (hts _ q1997) (fun _ h9 => h9) rfl (tyX5_ok 11 (by decide)) rfl rfl (Nat.le_of_ble_eq_true rfl) dX5_next_39 (fun H locs hP hD hS => ?_)
          rw [tw_p11] at hP hD
          refine lv_aload_n hx hb dX5_next_42 rfl (lv_at hl 0 rfl) ?_
          refine va_get (D := (dC, dI)) (ci := 0) (v := .int (((tw_sf u1 11 ((u1).1 10))).1 10)) (C := RX5) (T := TX5) (N := 28) hx hb hts in_X5 hown hK hP 0 tw_g rfl 10 (by decide) (hts _ q1996) (fun _ h9 => h9) rfl dX5_next_43 ?_
          refine lv_aload_n hx hb dX5_next_46 rfl (lv_at hl 0 rfl) ?_
          refine va_get (D := (dC, dI)) (ci := 0) (v := .int (((tw_sf u1 11 ((u1).1 10))).1 9)) (C := RX5) (T := TX5) (N := 28) hx hb hts in_X5 hown hK hP 0 tw_g rfl 9 (by decide) (hts _ q1995) (fun _ h9 => h9) rfl dX5_next_47 ?_
          refine lv_icmp_lt (tgt := 61) hx hb dX5_next_50 (by decide) (fun c3 => ?_) (fun c3 => ?_)
          · replace hF := it_t c3 hF
            refine lv_aload_n hx hb dX5_next_61 rfl (lv_at hl 0 rfl) ?_
            refine lv_aload_n hx hb dX5_next_62 rfl (lv_at hl 0 rfl) ?_
            refine va_get (D := (dC, dI)) (ci := 0) (v := .int (((tw_sf u1 11 ((u1).1 10))).1 10)) (C := RX5) (T := TX5) (N := 28) hx hb hts in_X5 hown hK hP 0 tw_g rfl 10 (by decide) (hts _ q1996) (fun _ h9 => h9) rfl dX5_next_63 ?_
            obtain ⟨r4, u4, e4, hF⟩ := bnd_s hF
            refine tw_calli (va_runV (As := [.int (((tw_sf u1 11 ((u1).1 10))).1 10)]) (rest := []) ⟨hx, hb, hml, hown, hts⟩ (mt_see l dC dI cI cZ m0 ad H.size (tw_sf u1 11 ((u1).1 10))  (((tw_sf u1 11 ((u1).1 10))).1 10) _ e4) (cwV 1 hts (lw_V q2107 q2109 qs48 q125 q2110) rfl rfl rfl (by decide +kernel) ⟨Nat.le_of_ble_eq_true rfl, Nat.le_of_ble_eq_true rfl⟩) (tw_preV hK hP hD _) rfl rfl hl.1 rfl (lv_room (Nat.le_of_ble_eq_true rfl)) dX5_next_66 ⟨Nat.le_of_ble_eq_true rfl, Nat.le_of_ble_eq_true rfl⟩) hS hD hAA (fun rr uu H locs hw hP hD hS => ?_)
            obtain rfl : r4 = rr := (congrArg Prod.fst hw).symm
            obtain rfl : u4 = uu := (congrArg Prod.snd hw).symm
            obtain ⟨r5, u5, e5, hF⟩ := bnd_s hF
            refine tw_calli (va_runS (As := [.int r4]) (rest := []) ⟨hx, hb, hml, hown, hts⟩ (mt_isLetter l dC dI cI cZ m0 ad H.size u4  r4 _ e5) (va_cwS 1 hts (lw_S q2111 q2112 q125 q2113) rfl rfl rfl (by decide +kernel) ⟨Nat.le_of_ble_eq_true rfl, Nat.le_of_ble_eq_true rfl⟩) (tw_preS hK hP hD _) rfl rfl hl.1 rfl (lv_room (Nat.le_of_ble_eq_true rfl)) dX5_next_69 ⟨Nat.le_of_ble_eq_true rfl, Nat.le_of_ble_eq_true rfl⟩) hS hD hAA (fun rr uu H locs hw hP hD hS => ?_)
            obtain rfl : r5 = rr := (congrArg Prod.fst hw).symm
            obtain rfl : u5 = uu := (congrArg Prod.snd hw).symm
            refine lv_if_eq (tgt := 110) hx hb dX5_next_72 (by decide) (fun c6 => ?_) (fun c6 => ?_)
            · replace hF := it_t c6 hF
              refine lv_aload_n hx hb dX5_next_110 rfl (lv_at hl 0 rfl) ?_
              refine lv_aload_n hx hb dX5_next_111 rfl (lv_at hl 0 rfl) ?_
              refine va_get (D := (dC, dI)) (ci := 0) (v := .int ((u5).1 10)) (C := RX5) (T := TX5) (N := 28) hx hb hts in_X5 hown hK hP 0 tw_g rfl 10 (by decide) (hts _ q1996) (fun _ h9 => h9) rfl dX5_next_112 ?_
              obtain ⟨r7, u7, e7, hF⟩ := bnd_s hF
              refine tw_calli (va_runV (As := [.int ((u5).1 10)]) (rest := []) ⟨hx, hb, hml, hown, hts⟩ (mt_see l dC dI cI cZ m0 ad H.size u5  ((u5).1 10) _ e7) (cwV 1 hts (lw_V q2107 q2109 qs48 q125 q2110) rfl rfl rfl (by decide +kernel) ⟨Nat.le_of_ble_eq_true rfl, Nat.le_of_ble_eq_true rfl⟩) (tw_preV hK hP hD _) rfl rfl hl.1 rfl (lv_room (Nat.le_of_ble_eq_true rfl)) dX5_next_115 ⟨Nat.le_of_ble_eq_true rfl, Nat.le_of_ble_eq_true rfl⟩) hS hD hAA (fun rr uu H locs hw hP hD hS => ?_)
              obtain rfl : r7 = rr := (congrArg Prod.fst hw).symm
              obtain rfl : u7 = uu := (congrArg Prod.snd hw).symm
              obtain ⟨r8, u8, e8, hF⟩ := bnd_s hF
              refine tw_calli (va_runS (As := [.int r7]) (rest := []) ⟨hx, hb, hml, hown, hts⟩ (mt_isDigit l dC dI cI cZ m0 ad H.size u7  r7 _ e8) (va_cwS 1 hts (lw_S q2114 q2115 q125 q2116) rfl rfl rfl (by decide +kernel) ⟨Nat.le_of_ble_eq_true rfl, Nat.le_of_ble_eq_true rfl⟩) (tw_preS hK hP hD _) rfl rfl hl.1 rfl (lv_room (Nat.le_of_ble_eq_true rfl)) dX5_next_118 ⟨Nat.le_of_ble_eq_true rfl, Nat.le_of_ble_eq_true rfl⟩) hS hD hAA (fun rr uu H locs hw hP hD hS => ?_)
              obtain rfl : r8 = rr := (congrArg Prod.fst hw).symm
              obtain rfl : u8 = uu := (congrArg Prod.snd hw).symm
              refine lv_if_eq (tgt := 197) hx hb dX5_next_121 (by decide) (fun c9 => ?_) (fun c9 => ?_)
              · replace hF := it_t c9 hF
                refine lv_aload_n hx hb dX5_next_197 rfl (lv_at hl 0 rfl) ?_
                refine lv_dup hx hb dX5_next_198 rfl ?_
                refine va_get (D := (dC, dI)) (ci := 0) (v := .int ((u8).1 11)) (C := RX5) (T := TX5) (N := 28) hx hb hts in_X5 hown hK hP 0 tw_g rfl 11 (by decide) (hts _ q1997) (fun _ h9 => h9) rfl dX5_next_199 ?_
                refine lv_iconst (v := 1) hx hb dX5_next_202 (by decide) ?_
                refine lv_iadd hx hb dX5_next_203 ?_
                refine va_put (D := (dC, dI)) (ci := 0) (v := .int (((u8).1 11) + 1)) (ty := .int) (C := RX5) (T := TX5) (N := 28) hx hb hts in_X5 tyX5 tyX5_ok nmX5 hown hK hP hD hS 0 tw_g rfl 11 (by decide) (hts _ q1997) (fun _ h9 => h9) rfl (tyX5_ok 11 (by decide)) rfl rfl (Nat.le_of_ble_eq_true rfl) dX5_next_204 (fun H locs hP hD hS => ?_)
                rw [tw_p11] at hP hD
                refine lv_aload_n hx hb dX5_next_207 rfl (lv_at hl 0 rfl) ?_
                refine lv_iconst (v := 2) hx hb dX5_next_208 (by decide) ?_
                refine va_put (D := (dC, dI)) (ci := 0) (v := .int 2) (ty := .int) (C := RX5) (T := TX5) (N := 28) hx hb hts in_X5 tyX5 tyX5_ok nmX5 hown hK hP hD hS 0 tw_g rfl 12 (by decide) (hts _ q1998) (fun _ h9 => h9) rfl (tyX5_ok 12 (by decide)) rfl rfl (Nat.le_of_ble_eq_true rfl) dX5_next_209 (fun H locs hP hD hS => ?_)
                rw [tw_p12] at hP hD
                exact W.vret hx hb hr (fun t ht hW => ⟨⟨(tw_sf (tw_sf u8 11 (((u8).1 11) + 1)) 12 2), rfl, Option.some.inj hF, by rw [ht]; exact hP, va_K.moved hW.alike hK⟩, hS.F ht⟩) hS.2.2 dX5_next_212
              · replace hF := it_f c9 hF
                refine lv_aload_n hx hb dX5_next_124 rfl (lv_at hl 0 rfl) ?_
                refine lv_iconst (v := 0) hx hb dX5_next_125 (by decide) ?_
                refine va_put (D := (dC, dI)) (ci := 0) (v := .int 0) (ty := .int) (C := RX5) (T := TX5) (N := 28) hx hb hts in_X5 tyX5 tyX5_ok nmX5 hown hK hP hD hS 0 tw_g rfl 13 (by decide) (hts _ q1999) (fun _ h9 => h9) rfl (tyX5_ok 13 (by decide)) rfl rfl (Nat.le_of_ble_eq_true rfl) dX5_next_126 (fun H locs hP hD hS => ?_)
                rw [tw_p13] at hP hD
                exact lp3 (tw_sf u8 13 0)  hF _ _ hP hD hS ls (lv_sub hl [0] rfl)
            · replace hF := it_f c6 hF
              exact lp2 u5  hF _ _ hP hD hS ls (lv_sub hl [0] rfl)
          · replace hF := it_f c3 hF
            refine lv_aload_n hx hb dX5_next_53 rfl (lv_at hl 0 rfl) ?_
            refine lv_iconst (v := 3) hx hb dX5_next_54 (by decide) ?_
            refine va_put (D := (dC, dI)) (ci := 0) (v := .int 3) (ty := .int) (C := RX5) (T := TX5) (N := 28) hx hb hts in_X5 tyX5 tyX5_ok nmX5 hown hK hP hD hS 0 tw_g rfl 12 (by decide) (hts _ q1998) (fun _ h9 => h9) rfl (tyX5_ok 12 (by decide)) rfl rfl (Nat.le_of_ble_eq_true rfl) dX5_next_55 (fun H locs hP hD hS => ?_)
            rw [tw_p12] at hP hD
            refine lv_goto (tgt := 212) hx hb dX5_next_58 (by decide) ?_
            exact W.vret hx hb hr (fun t ht hW => ⟨⟨(tw_sf (tw_sf u1 11 ((u1).1 10)) 12 3), rfl, Option.some.inj hF, by rw [ht]; exact hP, va_K.moved hW.alike hK⟩, hS.F ht⟩) hS.2.2 dX5_next_212
        · replace hF := it_t c2 hF
          refine lv_aload_n hx hb dX5_next_21 rfl (lv_at hl 0 rfl) ?_
          refine lv_dup hx hb dX5_next_22 rfl ?_
          refine va_get (D := (dC, dI)) (ci := 0) (v := .int ((u1).1 10)) (C := RX5) (T := TX5) (N := 28) hx hb hts in_X5 hown hK hP 0 tw_g rfl 10 (by decide) (hts _ q1996) (fun _ h9 => h9) rfl dX5_next_23 ?_
          refine lv_iconst (v := 1) hx hb dX5_next_26 (by decide) ?_
          refine lv_iadd hx hb dX5_next_27 ?_
          refine va_put (D := (dC, dI)) (ci := 0) (v := .int (((u1).1 10) + 1)) (ty := .int) (C := RX5) (T := TX5) (N := 28) hx hb hts in_X5 tyX5 tyX5_ok nmX5 hown hK hP hD hS 0 tw_g rfl 10 (by decide) (hts _ q1996) (fun _ h9 => h9) rfl (tyX5_ok 10 (by decide)) rfl rfl (Nat.le_of_ble_eq_true rfl) dX5_next_28 (fun H locs hP hD hS => ?_)
          rw [tw_p10] at hP hD
          refine lv_goto (tgt := 8) hx hb dX5_next_31 (by decide) ?_
          exact lp1 (tw_sf u1 10 (((u1).1 10) + 1))  hF _ _ hP hD hS ls (lv_sub hl [0] rfl)
      · intro σ  hF H locs hP hD hS ls hl
        replace hF : F_next_2 (F_next_r n) n σ  = some out := hF
        unfold F_next_2 at hF
        refine lv_aload_n hx hb dX5_next_75 rfl (lv_at hl 0 rfl) ?_
        refine lv_aload_n hx hb dX5_next_76 rfl (lv_at hl 0 rfl) ?_
        refine va_get (D := (dC, dI)) (ci := 0) (v := .int ((σ).1 11)) (C := RX5) (T := TX5) (N := 28) hx hb hts in_X5 hown hK hP 0 tw_g rfl 11 (by decide) (hts _ q1997) (fun _ h9 => h9) rfl dX5_next_77 ?_
        obtain ⟨r10, u10, e10, hF⟩ := bnd_s hF
        refine tw_calli (va_runV (As := [.int ((σ).1 11)]) (rest := []) ⟨hx, hb, hml, hown, hts⟩ (mt_see l dC dI cI cZ m0 ad H.size σ  ((σ).1 11) _ e10) (cwV 1 hts (lw_V q2107 q2109 qs48 q125 q2110) rfl rfl rfl (by decide +kernel) ⟨Nat.le_of_ble_eq_true rfl, Nat.le_of_ble_eq_true rfl⟩) (tw_preV hK hP hD _) rfl rfl hl.1 rfl (lv_room (Nat.le_of_ble_eq_true rfl)) dX5_next_80 ⟨Nat.le_of_ble_eq_true rfl, Nat.le_of_ble_eq_true rfl⟩) hS hD hAA (fun rr uu H locs hw hP hD hS => ?_)
        obtain rfl : r10 = rr := (congrArg Prod.fst hw).symm
        obtain rfl : u10 = uu := (congrArg Prod.snd hw).symm
        obtain ⟨r11, u11, e11, hF⟩ := bnd_s hF
        refine tw_calli (va_runS (As := [.int r10]) (rest := []) ⟨hx, hb, hml, hown, hts⟩ (mt_isLetter l dC dI cI cZ m0 ad H.size u10  r10 _ e11) (va_cwS 1 hts (lw_S q2111 q2112 q125 q2113) rfl rfl rfl (by decide +kernel) ⟨Nat.le_of_ble_eq_true rfl, Nat.le_of_ble_eq_true rfl⟩) (tw_preS hK hP hD _) rfl rfl hl.1 rfl (lv_room (Nat.le_of_ble_eq_true rfl)) dX5_next_83 ⟨Nat.le_of_ble_eq_true rfl, Nat.le_of_ble_eq_true rfl⟩) hS hD hAA (fun rr uu H locs hw hP hD hS => ?_)
        obtain rfl : r11 = rr := (congrArg Prod.fst hw).symm
        obtain rfl : u11 = uu := (congrArg Prod.snd hw).symm
        refine lv_if_eq (tgt := 102) hx hb dX5_next_86 (by decide) (fun c12 => ?_) (fun c12 => ?_)
        · replace hF := it_t c12 hF
          refine lv_aload_n hx hb dX5_next_102 rfl (lv_at hl 0 rfl) ?_
          refine lv_iconst (v := 0) hx hb dX5_next_103 (by decide) ?_
          refine va_put (D := (dC, dI)) (ci := 0) (v := .int 0) (ty := .int) (C := RX5) (T := TX5) (N := 28) hx hb hts in_X5 tyX5 tyX5_ok nmX5 hown hK hP hD hS 0 tw_g rfl 12 (by decide) (hts _ q1998) (fun _ h9 => h9) rfl (tyX5_ok 12 (by decide)) rfl rfl (Nat.le_of_ble_eq_true rfl) dX5_next_104 (fun H locs hP hD hS => ?_)
          rw [tw_p12] at hP hD
          refine lv_goto (tgt := 212) hx hb dX5_next_107 (by decide) ?_
          exact W.vret hx hb hr (fun t ht hW => ⟨⟨(tw_sf u11 12 0), rfl, Option.some.inj hF, by rw [ht]; exact hP, va_K.moved hW.alike hK⟩, hS.F ht⟩) hS.2.2 dX5_next_212
        · replace hF := it_f c12 hF
          refine lv_aload_n hx hb dX5_next_89 rfl (lv_at hl 0 rfl) ?_
          refine lv_dup hx hb dX5_next_90 rfl ?_
          refine va_get (D := (dC, dI)) (ci := 0) (v := .int ((u11).1 11)) (C := RX5) (T := TX5) (N := 28) hx hb hts in_X5 hown hK hP 0 tw_g rfl 11 (by decide) (hts _ q1997) (fun _ h9 => h9) rfl dX5_next_91 ?_
          refine lv_iconst (v := 1) hx hb dX5_next_94 (by decide) ?_
          refine lv_iadd hx hb dX5_next_95 ?_
          refine va_put (D := (dC, dI)) (ci := 0) (v := .int (((u11).1 11) + 1)) (ty := .int) (C := RX5) (T := TX5) (N := 28) hx hb hts in_X5 tyX5 tyX5_ok nmX5 hown hK hP hD hS 0 tw_g rfl 11 (by decide) (hts _ q1997) (fun _ h9 => h9) rfl (tyX5_ok 11 (by decide)) rfl rfl (Nat.le_of_ble_eq_true rfl) dX5_next_96 (fun H locs hP hD hS => ?_)
          rw [tw_p11] at hP hD
          refine lv_goto (tgt := 75) hx hb dX5_next_99 (by decide) ?_
          exact lp2 (tw_sf u11 11 (((u11).1 11) + 1))  hF _ _ hP hD hS ls (lv_sub hl [0] rfl)
      · intro σ  hF H locs hP hD hS ls hl
        replace hF : F_next_3 (F_next_r n) n σ  = some out := hF
        unfold F_next_3 at hF
        refine lv_aload_n hx hb dX5_next_129 rfl (lv_at hl 0 rfl) ?_
        refine lv_aload_n hx hb dX5_next_130 rfl (lv_at hl 0 rfl) ?_
        refine va_get (D := (dC, dI)) (ci := 0) (v := .int ((σ).1 11)) (C := RX5) (T := TX5) (N := 28) hx hb hts in_X5 hown hK hP 0 tw_g rfl 11 (by decide) (hts _ q1997) (fun _ h9 => h9) rfl dX5_next_131 ?_
        obtain ⟨r13, u13, e13, hF⟩ := bnd_s hF
        refine tw_calli (va_runV (As := [.int ((σ).1 11)]) (rest := []) ⟨hx, hb, hml, hown, hts⟩ (mt_see l dC dI cI cZ m0 ad H.size σ  ((σ).1 11) _ e13) (cwV 1 hts (lw_V q2107 q2109 qs48 q125 q2110) rfl rfl rfl (by decide +kernel) ⟨Nat.le_of_ble_eq_true rfl, Nat.le_of_ble_eq_true rfl⟩) (tw_preV hK hP hD _) rfl rfl hl.1 rfl (lv_room (Nat.le_of_ble_eq_true rfl)) dX5_next_134 ⟨Nat.le_of_ble_eq_true rfl, Nat.le_of_ble_eq_true rfl⟩) hS hD hAA (fun rr uu H locs hw hP hD hS => ?_)
        obtain rfl : r13 = rr := (congrArg Prod.fst hw).symm
        obtain rfl : u13 = uu := (congrArg Prod.snd hw).symm
        obtain ⟨r14, u14, e14, hF⟩ := bnd_s hF
        refine tw_calli (va_runS (As := [.int r13]) (rest := []) ⟨hx, hb, hml, hown, hts⟩ (mt_isDigit l dC dI cI cZ m0 ad H.size u13  r13 _ e14) (va_cwS 1 hts (lw_S q2114 q2115 q125 q2116) rfl rfl rfl (by decide +kernel) ⟨Nat.le_of_ble_eq_true rfl, Nat.le_of_ble_eq_true rfl⟩) (tw_preS hK hP hD _) rfl rfl hl.1 rfl (lv_room (Nat.le_of_ble_eq_true rfl)) dX5_next_137 ⟨Nat.le_of_ble_eq_true rfl, Nat.le_of_ble_eq_true rfl⟩) hS hD hAA (fun rr uu H locs hw hP hD hS => ?_)
        obtain rfl : r14 = rr := (congrArg Prod.fst hw).symm
        obtain rfl : u14 = uu := (congrArg Prod.snd hw).symm
        refine lv_if_eq (tgt := 189) hx hb dX5_next_140 (by decide) (fun c15 => ?_) (fun c15 => ?_)
        · replace hF := it_t c15 hF
          refine lv_aload_n hx hb dX5_next_189 rfl (lv_at hl 0 rfl) ?_
          refine lv_iconst (v := 1) hx hb dX5_next_190 (by decide) ?_
          refine va_put (D := (dC, dI)) (ci := 0) (v := .int 1) (ty := .int) (C := RX5) (T := TX5) (N := 28) hx hb hts in_X5 tyX5 tyX5_ok nmX5 hown hK hP hD hS 0 tw_g rfl 12 (by decide) (hts _ q1998) (fun _ h9 => h9) rfl (tyX5_ok 12 (by decide)) rfl rfl (Nat.le_of_ble_eq_true rfl) dX5_next_191 (fun H locs hP hD hS => ?_)
          rw [tw_p12] at hP hD
          refine lv_goto (tgt := 212) hx hb dX5_next_194 (by decide) ?_
          exact W.vret hx hb hr (fun t ht hW => ⟨⟨(tw_sf u14 12 1), rfl, Option.some.inj hF, by rw [ht]; exact hP, va_K.moved hW.alike hK⟩, hS.F ht⟩) hS.2.2 dX5_next_212
        · replace hF := it_f c15 hF
          refine lv_aload_n hx hb dX5_next_143 rfl (lv_at hl 0 rfl) ?_
          refine va_get (D := (dC, dI)) (ci := 0) (v := .int ((u14).1 13)) (C := RX5) (T := TX5) (N := 28) hx hb hts in_X5 hown hK hP 0 tw_g rfl 13 (by decide) (hts _ q1999) (fun _ h9 => h9) rfl dX5_next_144 ?_
          refine lv_sipush (v := 1000) hx hb dX5_next_147 (by decide) ?_
          refine lv_icmp_ge (tgt := 176) hx hb dX5_next_150 (by decide) (fun c16 => ?_) (fun c16 => ?_)
          · replace hF := it_t c16 hF
            refine lv_aload_n hx hb dX5_next_176 rfl (lv_at hl 0 rfl) ?_
            refine lv_dup hx hb dX5_next_177 rfl ?_
            refine va_get (D := (dC, dI)) (ci := 0) (v := .int ((u14).1 11)) (C := RX5) (T := TX5) (N := 28) hx hb hts in_X5 hown hK hP 0 tw_g rfl 11 (by decide) (hts _ q1997) (fun _ h9 => h9) rfl dX5_next_178 ?_
            refine lv_iconst (v := 1) hx hb dX5_next_181 (by decide) ?_
            refine lv_iadd hx hb dX5_next_182 ?_
            refine va_put (D := (dC, dI)) (ci := 0) (v := .int (((u14).1 11) + 1)) (ty := .int) (C := RX5) (T := TX5) (N := 28) hx hb hts in_X5 tyX5 tyX5_ok nmX5 hown hK hP hD hS 0 tw_g rfl 11 (by decide) (hts _ q1997) (fun _ h9 => h9) rfl (tyX5_ok 11 (by decide)) rfl rfl (Nat.le_of_ble_eq_true rfl) dX5_next_183 (fun H locs hP hD hS => ?_)
            rw [tw_p11] at hP hD
            refine lv_goto (tgt := 129) hx hb dX5_next_186 (by decide) ?_
            exact lp3 (tw_sf u14 11 (((u14).1 11) + 1))  hF _ _ hP hD hS ls (lv_sub hl [0] rfl)
          · replace hF := it_f c16 hF
            refine lv_aload_n hx hb dX5_next_153 rfl (lv_at hl 0 rfl) ?_
            refine lv_bipush (v := 10) hx hb dX5_next_154 (by decide) ?_
            refine lv_aload_n hx hb dX5_next_156 rfl (lv_at hl 0 rfl) ?_
            refine va_get (D := (dC, dI)) (ci := 0) (v := .int ((u14).1 13)) (C := RX5) (T := TX5) (N := 28) hx hb hts in_X5 hown hK hP 0 tw_g rfl 13 (by decide) (hts _ q1999) (fun _ h9 => h9) rfl dX5_next_157 ?_
            refine lv_imul hx hb dX5_next_160 ?_
            refine lv_aload_n hx hb dX5_next_161 rfl (lv_at hl 0 rfl) ?_
            refine lv_aload_n hx hb dX5_next_162 rfl (lv_at hl 0 rfl) ?_
            refine va_get (D := (dC, dI)) (ci := 0) (v := .int ((u14).1 11)) (C := RX5) (T := TX5) (N := 28) hx hb hts in_X5 hown hK hP 0 tw_g rfl 11 (by decide) (hts _ q1997) (fun _ h9 => h9) rfl dX5_next_163 ?_
            obtain ⟨r17, u17, e17, hF⟩ := bnd_s hF
            refine tw_calli (va_runV (As := [.int ((u14).1 11)]) (rest := [.int (10 * ((u14).1 13)), .ref m0]) ⟨hx, hb, hml, hown, hts⟩ (mt_see l dC dI cI cZ m0 ad H.size u14  ((u14).1 11) _ e17) (cwV 1 hts (lw_V q2107 q2109 qs48 q125 q2110) rfl rfl rfl (by decide +kernel) ⟨Nat.le_of_ble_eq_true rfl, Nat.le_of_ble_eq_true rfl⟩) (tw_preV hK hP hD _) rfl rfl hl.1 rfl (lv_room (Nat.le_of_ble_eq_true rfl)) dX5_next_166 ⟨Nat.le_of_ble_eq_true rfl, Nat.le_of_ble_eq_true rfl⟩) hS hD hAA (fun rr uu H locs hw hP hD hS => ?_)
            obtain rfl : r17 = rr := (congrArg Prod.fst hw).symm
            obtain rfl : u17 = uu := (congrArg Prod.snd hw).symm
            refine lv_iadd hx hb dX5_next_169 ?_
            refine lv_bipush (v := 48) hx hb dX5_next_170 (by decide) ?_
            refine lv_isub hx hb dX5_next_172 ?_
            refine va_put (D := (dC, dI)) (ci := 0) (v := .int (((10 * ((u14).1 13)) + r17) - 48)) (ty := .int) (C := RX5) (T := TX5) (N := 28) hx hb hts in_X5 tyX5 tyX5_ok nmX5 hown hK hP hD hS 0 tw_g rfl 13 (by decide) (hts _ q1999) (fun _ h9 => h9) rfl (tyX5_ok 13 (by decide)) rfl rfl (Nat.le_of_ble_eq_true rfl) dX5_next_173 (fun H locs hP hD hS => ?_)
            rw [tw_p13] at hP hD
            refine lv_aload_n hx hb dX5_next_176 rfl (lv_at hl 0 rfl) ?_
            refine lv_dup hx hb dX5_next_177 rfl ?_
            refine va_get (D := (dC, dI)) (ci := 0) (v := .int (((tw_sf u17 13 (((10 * ((u14).1 13)) + r17) - 48))).1 11)) (C := RX5) (T := TX5) (N := 28) hx hb hts in_X5 hown hK hP 0 tw_g rfl 11 (by decide) (hts _ q1997) (fun _ h9 => h9) rfl dX5_next_178 ?_
            refine lv_iconst (v := 1) hx hb dX5_next_181 (by decide) ?_
            refine lv_iadd hx hb dX5_next_182 ?_
            refine va_put (D := (dC, dI)) (ci := 0) (v := .int ((((tw_sf u17 13 (((10 * ((u14).1 13)) + r17) - 48))).1 11) + 1)) (ty := .int) (C := RX5) (T := TX5) (N := 28) hx hb hts in_X5 tyX5 tyX5_ok nmX5 hown hK hP hD hS 0 tw_g rfl 11 (by decide) (hts _ q1997) (fun _ h9 => h9) rfl (tyX5_ok 11 (by decide)) rfl rfl (Nat.le_of_ble_eq_true rfl) dX5_next_183 (fun H locs hP hD hS => ?_)
            rw [tw_p11] at hP hD
            refine lv_goto (tgt := 129) hx hb dX5_next_186 (by decide) ?_
            exact lp3 (tw_sf (tw_sf u17 13 (((10 * ((u14).1 13)) + r17) - 48)) 11 ((((tw_sf u17 13 (((10 * ((u14).1 13)) + r17) - 48))).1 11) + 1))  hF _ _ hP hD hS ls (lv_sub hl [0] rfl)
  obtain ⟨lp1, lp2, lp3⟩ := loop n
  unfold F_next F_next_0 at hF
  refine lv_aload_n hx hb dX5_next_0 rfl (lv_at hl 0 rfl) ?_
  refine lv_aload_n hx hb dX5_next_1 rfl (lv_at hl 0 rfl) ?_
  refine va_get (D := (dC, dI)) (ci := 0) (v := .int ((σ).1 11)) (C := RX5) (T := TX5) (N := 28) hx hb hts in_X5 hown hK hP 0 tw_g rfl 11 (by decide) (hts _ q1997) (fun _ h9 => h9) rfl dX5_next_2 ?_
  refine va_put (D := (dC, dI)) (ci := 0) (v := .int ((σ).1 11)) (ty := .int) (C := RX5) (T := TX5) (N := 28) hx hb hts in_X5 tyX5 tyX5_ok nmX5 hown hK hP hD hS 0 tw_g rfl 10 (by decide) (hts _ q1996) (fun _ h9 => h9) rfl (tyX5_ok 10 (by decide)) rfl rfl (Nat.le_of_ble_eq_true rfl) dX5_next_5 (fun H locs hP hD hS => ?_)
  rw [tw_p10] at hP hD
  exact lp1 (tw_sf σ 10 ((σ).1 11))  hF _ _ hP hD hS ls (lv_sub hl [0] rfl)

def F_fails (σ : Tw) (p1 : Int32) : Option (Int32 × Tw) := if ((σ).1 14) = 0 then some (0, (tw_sf (tw_sf σ 14 p1) 15 (((tw_sf σ 14 p1)).1 10))) else some (0, σ)
set_option maxHeartbeats 4000000 in
set_option maxRecDepth 100000 in
theorem mt_fails (l : Launch) (dC : Nat → ClassId) (dI : Nat → Nat → Nat) (cI cZ : ClassId) (m0 : Nat) (ad : Nat → Nat) (sz : Nat) (σ : Tw)  (p1 : Int32) (out : Int32 × Tw) (hF : F_fails σ p1 = some out) : Met l yX5_fails (ws_ yX5_fails cX5_fails 2 none) ({ frames := 0, cells := 0, slots := 0, locals := 0 }) (va_Pc [.ref m0, .int p1] (tw_Pre dC dI cI cZ m0 ad sz σ)) (va_Qv (fun u => (0, u) = out) (tw_B dC dI cI cZ m0 ad) (tw_A m0 ad sz)) 0 0 (tw_A m0 ad sz) := by
  refine Met.ofW (cc := cX5_fails) (maxL := 2) (ret := none) (by decide +kernel) rfl ?_
  intro p e s m args below meth c s₁ B hml hv
  obtain ⟨rfl, hsz, hP, hK, hD0⟩ := hv
  have hx := B.exec
  have hb := B.bytes
  have hr := B.returns
  have hts := atoms_spec (ws := (ws_ yX5_fails cX5_fails 2 none)) B.pre
  have hts : ∀ w ∈ lw_all, w.before _ s = true := fun w h => hts w (List.mem_cons_of_mem _ h)
  have hown : s.vm.findClass RX5 = some m.cls := findClass_of_methodNamed B.named
  have hlocks := B.notSynchronized
  subst hsz
  have hD := tw_Ds (z := s.heap.size) hD0
  have hAA := fun z (h : s.heap.size ≤ z) => tw_Am (m0 := m0) (ad := ad) h
  generalize hAe : tw_A m0 ad s.heap.size = A at hD hAA ⊢
  have hS : va_S A s.heap s.heap [] := va_S.rf
  have hP : va_P (dC, dI) vwCl (tw_ws m0 ad cI cZ σ) s.heap := hP
  have hl := lv_entry ([.ref m0, .int p1]) (n := 2) (Nat.le_of_ble_eq_true rfl)
  rw [lg_entry_eq]
  generalize (lg_sl ([.ref m0, .int p1]) ++ List.replicate (2 - (lg_sl ([.ref m0, .int p1])).length) Slot.unset).toArray = ls at hl ⊢
  have hl : lv_has ls 2 [(0, .ref m0), (1, .int p1)] := hl
  unfold F_fails at hF
  refine lv_aload_n hx hb dX5_fails_0 rfl (lv_at hl 0 rfl) ?_
  refine va_get (D := (dC, dI)) (ci := 0) (v := .int ((σ).1 14)) (C := RX5) (T := TX5) (N := 28) hx hb hts in_X5 hown hK hP 0 tw_g rfl 14 (by decide) (hts _ q2000) (fun _ h9 => h9) rfl dX5_fails_1 ?_
  refine lv_if_eq (tgt := 8) hx hb dX5_fails_4 (by decide) (fun c1 => ?_) (fun c1 => ?_)
  · replace hF := it_t c1 hF
    refine lv_aload_n hx hb dX5_fails_8 rfl (lv_at hl 0 rfl) ?_
    refine lv_iload_n hx hb dX5_fails_9 rfl (lv_at hl 1 rfl) ?_
    refine va_put (D := (dC, dI)) (ci := 0) (v := .int p1) (ty := .int) (C := RX5) (T := TX5) (N := 28) hx hb hts in_X5 tyX5 tyX5_ok nmX5 hown hK hP hD hS 0 tw_g rfl 14 (by decide) (hts _ q2000) (fun _ h9 => h9) rfl (tyX5_ok 14 (by decide)) rfl rfl (Nat.le_of_ble_eq_true rfl) dX5_fails_10 (fun H locs hP hD hS => ?_)
    rw [tw_p14] at hP hD
    refine lv_aload_n hx hb dX5_fails_13 rfl (lv_at hl 0 rfl) ?_
    refine lv_aload_n hx hb dX5_fails_14 rfl (lv_at hl 0 rfl) ?_
    refine va_get (D := (dC, dI)) (ci := 0) (v := .int (((tw_sf σ 14 p1)).1 10)) (C := RX5) (T := TX5) (N := 28) hx hb hts in_X5 hown hK hP 0 tw_g rfl 10 (by decide) (hts _ q1996) (fun _ h9 => h9) rfl dX5_fails_15 ?_
    refine va_put (D := (dC, dI)) (ci := 0) (v := .int (((tw_sf σ 14 p1)).1 10)) (ty := .int) (C := RX5) (T := TX5) (N := 28) hx hb hts in_X5 tyX5 tyX5_ok nmX5 hown hK hP hD hS 0 tw_g rfl 15 (by decide) (hts _ q2001) (fun _ h9 => h9) rfl (tyX5_ok 15 (by decide)) rfl rfl (Nat.le_of_ble_eq_true rfl) dX5_fails_18 (fun H locs hP hD hS => ?_)
    rw [tw_p15] at hP hD
    exact W.vret hx hb hr (fun t ht hW => ⟨⟨(tw_sf (tw_sf σ 14 p1) 15 (((tw_sf σ 14 p1)).1 10)), rfl, Option.some.inj hF, by rw [ht]; exact hP, va_K.moved hW.alike hK⟩, hS.F ht⟩) hS.2.2 dX5_fails_21
  · replace hF := it_f c1 hF
    exact W.vret hx hb hr (fun t ht hW => ⟨⟨σ, rfl, Option.some.inj hF, by rw [ht]; exact hP, va_K.moved hW.alike hK⟩, hS.F ht⟩) hS.2.2 dX5_fails_7

def F_must (n : Nat) (σ : Tw) (p1 : Int32) : Option (Int32 × Tw) := if p1 = 0 then bnd (F_fails σ (-2)) (fun r4 u4 => if ((u4).1 14) = 0 then bnd (F_next n u4 ) (fun r6 u6 => some (0, u6)) else some (0, u4)) else if ((σ).1 14) = 0 then bnd (F_next n σ ) (fun r3 u3 => some (0, u3)) else some (0, σ)
set_option maxHeartbeats 4000000 in
set_option maxRecDepth 100000 in
theorem mt_must (l : Launch) (dC : Nat → ClassId) (dI : Nat → Nat → Nat) (cI cZ : ClassId) (m0 : Nat) (ad : Nat → Nat) (sz : Nat) (σ : Tw) (n : Nat)  (p1 : Int32) (out : Int32 × Tw) (hF : F_must n σ p1 = some out) : Met l yX5_must (ws_ yX5_must cX5_must 2 none) ({ frames := 3, cells := 0, slots := 0, locals := 62 }) (va_Pc [.ref m0, .int p1] (tw_Pre dC dI cI cZ m0 ad sz σ)) (va_Qv (fun u => (0, u) = out) (tw_B dC dI cI cZ m0 ad) (tw_A m0 ad sz)) 0 0 (tw_A m0 ad sz) := by
  refine Met.ofW (cc := cX5_must) (maxL := 2) (ret := none) (by decide +kernel) rfl ?_
  intro p e s m args below meth c s₁ B hml hv
  obtain ⟨rfl, hsz, hP, hK, hD0⟩ := hv
  have hx := B.exec
  have hb := B.bytes
  have hr := B.returns
  have hts := atoms_spec (ws := (ws_ yX5_must cX5_must 2 none)) B.pre
  have hts : ∀ w ∈ lw_all, w.before _ s = true := fun w h => hts w (List.mem_cons_of_mem _ h)
  have hown : s.vm.findClass RX5 = some m.cls := findClass_of_methodNamed B.named
  have hlocks := B.notSynchronized
  subst hsz
  have hD := tw_Ds (z := s.heap.size) hD0
  have hAA := fun z (h : s.heap.size ≤ z) => tw_Am (m0 := m0) (ad := ad) h
  generalize hAe : tw_A m0 ad s.heap.size = A at hD hAA ⊢
  have hS : va_S A s.heap s.heap [] := va_S.rf
  have hP : va_P (dC, dI) vwCl (tw_ws m0 ad cI cZ σ) s.heap := hP
  have hl := lv_entry ([.ref m0, .int p1]) (n := 2) (Nat.le_of_ble_eq_true rfl)
  rw [lg_entry_eq]
  generalize (lg_sl ([.ref m0, .int p1]) ++ List.replicate (2 - (lg_sl ([.ref m0, .int p1])).length) Slot.unset).toArray = ls at hl ⊢
  have hl : lv_has ls 2 [(0, .ref m0), (1, .int p1)] := hl
  unfold F_must at hF
  refine lv_iload_n hx hb dX5_must_0 rfl (lv_at hl 1 rfl) ?_
  refine lv_if_ne (tgt := 10) hx hb dX5_must_1 (by decide) (fun c1 => ?_) (fun c1 => ?_)
  · replace hF := it_f c1 hF
    refine lv_aload_n hx hb dX5_must_10 rfl (lv_at hl 0 rfl) ?_
    refine va_get (D := (dC, dI)) (ci := 0) (v := .int ((σ).1 14)) (C := RX5) (T := TX5) (N := 28) hx hb hts in_X5 hown hK hP 0 tw_g rfl 14 (by decide) (hts _ q2000) (fun _ h9 => h9) rfl dX5_must_11 ?_
    refine lv_if_ne (tgt := 21) hx hb dX5_must_14 (by decide) (fun c2 => ?_) (fun c2 => ?_)
    · replace hF := it_f c2 hF
      exact W.vret hx hb hr (fun t ht hW => ⟨⟨σ, rfl, Option.some.inj hF, by rw [ht]; exact hP, va_K.moved hW.alike hK⟩, hS.F ht⟩) hS.2.2 dX5_must_21
    · replace hF := it_t c2 hF
      refine lv_aload_n hx hb dX5_must_17 rfl (lv_at hl 0 rfl) ?_
      obtain ⟨r3, u3, e3, hF⟩ := bnd_s hF
      refine tw_callv (va_runV (As := []) (rest := []) ⟨hx, hb, hml, hown, hts⟩ (mt_next l dC dI cI cZ m0 ad s.heap.size σ n   _ e3) (cwV 0 hts (lw_V q2103 q2105 qs47 q125 q2106) rfl rfl rfl (by decide +kernel) ⟨Nat.le_of_ble_eq_true rfl, Nat.le_of_ble_eq_true rfl⟩) (tw_preV hK hP hD _) rfl rfl hl.1 rfl (lv_room (Nat.le_of_ble_eq_true rfl)) dX5_must_18 ⟨Nat.le_of_ble_eq_true rfl, Nat.le_of_ble_eq_true rfl⟩) hS hD hAA (fun uu H locs hw hP hD hS => ?_)
      obtain rfl : u3 = uu := (congrArg Prod.snd hw).symm
      exact W.vret hx hb hr (fun t ht hW => ⟨⟨u3, rfl, Option.some.inj hF, by rw [ht]; exact hP, va_K.moved hW.alike hK⟩, hS.F ht⟩) hS.2.2 dX5_must_21
  · replace hF := it_t c1 hF
    refine lv_aload_n hx hb dX5_must_4 rfl (lv_at hl 0 rfl) ?_
    refine lv_bipush (v := (-2)) hx hb dX5_must_5 (by decide) ?_
    obtain ⟨r4, u4, e4, hF⟩ := bnd_s hF
    refine tw_callv (va_runV (As := [.int (-2)]) (rest := []) ⟨hx, hb, hml, hown, hts⟩ (mt_fails l dC dI cI cZ m0 ad s.heap.size σ  (-2) _ e4) (cwV 1 hts (lw_V q2132 q2134 qs52 q125 q2135) rfl rfl rfl (by decide +kernel) ⟨Nat.le_of_ble_eq_true rfl, Nat.le_of_ble_eq_true rfl⟩) (tw_preV hK hP hD _) rfl rfl hl.1 rfl (lv_room (Nat.le_of_ble_eq_true rfl)) dX5_must_7 ⟨Nat.le_of_ble_eq_true rfl, Nat.le_of_ble_eq_true rfl⟩) hS hD hAA (fun uu H locs hw hP hD hS => ?_)
    obtain rfl : u4 = uu := (congrArg Prod.snd hw).symm
    refine lv_aload_n hx hb dX5_must_10 rfl (lv_at hl 0 rfl) ?_
    refine va_get (D := (dC, dI)) (ci := 0) (v := .int ((u4).1 14)) (C := RX5) (T := TX5) (N := 28) hx hb hts in_X5 hown hK hP 0 tw_g rfl 14 (by decide) (hts _ q2000) (fun _ h9 => h9) rfl dX5_must_11 ?_
    refine lv_if_ne (tgt := 21) hx hb dX5_must_14 (by decide) (fun c5 => ?_) (fun c5 => ?_)
    · replace hF := it_f c5 hF
      exact W.vret hx hb hr (fun t ht hW => ⟨⟨u4, rfl, Option.some.inj hF, by rw [ht]; exact hP, va_K.moved hW.alike hK⟩, hS.F ht⟩) hS.2.2 dX5_must_21
    · replace hF := it_t c5 hF
      refine lv_aload_n hx hb dX5_must_17 rfl (lv_at hl 0 rfl) ?_
      obtain ⟨r6, u6, e6, hF⟩ := bnd_s hF
      refine tw_callv (va_runV (As := []) (rest := []) ⟨hx, hb, hml, hown, hts⟩ (mt_next l dC dI cI cZ m0 ad H.size u4 n   _ e6) (cwV 0 hts (lw_V q2103 q2105 qs47 q125 q2106) rfl rfl rfl (by decide +kernel) ⟨Nat.le_of_ble_eq_true rfl, Nat.le_of_ble_eq_true rfl⟩) (tw_preV hK hP hD _) rfl rfl hl.1 rfl (lv_room (Nat.le_of_ble_eq_true rfl)) dX5_must_18 ⟨Nat.le_of_ble_eq_true rfl, Nat.le_of_ble_eq_true rfl⟩) hS hD hAA (fun uu H locs hw hP hD hS => ?_)
      obtain rfl : u6 = uu := (congrArg Prod.snd hw).symm
      exact W.vret hx hb hr (fun t ht hW => ⟨⟨u6, rfl, Option.some.inj hF, by rw [ht]; exact hP, va_K.moved hW.alike hK⟩, hS.F ht⟩) hS.2.2 dX5_must_21

def F_takes_1 (R : Nat → Tw → Int32 → Int32 → Int32 → Option (Int32 × Tw)) (n : Nat) (σ : Tw) (x1 : Int32) (x2 : Int32) (x3 : Int32) : Option (Int32 × Tw) := if ((σ).1 14) = 0 then if ((σ).1 14) = 0 then bnd (F_next n σ ) (fun r16 u16 => some (((σ).1 13), u16)) else some (((σ).1 13), σ) else if ((σ).1 14) = 0 then bnd (F_next n σ ) (fun r14 u14 => some (0, u14)) else some (0, σ)
def F_takes_r : Nat → Nat → Tw → Int32 → Int32 → Int32 → Option (Int32 × Tw)
  | 0 => fun _ _ _ _ _ => none
  | n + 1 => fun k => match k with  | _ => F_takes_1 (F_takes_r n) n
def F_takes_0 (R : Nat → Tw → Int32 → Int32 → Int32 → Option (Int32 × Tw)) (n : Nat) (σ : Tw) (p1 : Int32) (p2 : Int32) : Option (Int32 × Tw) := if ((σ).1 14) = 0 then if ((σ).1 12) = 1 then if ((σ).1 14) = 0 then bnd (F_isIn σ ((σ).1 13) p1 p2) (fun r8 u8 => if r8 = 0 then bnd (F_fails u8 (-3)) (fun r10 u10 => R 1 u10 p1 p2 0) else R 1 u8 p1 p2 0) else R 1 σ p1 p2 0 else bnd (F_fails σ (-2)) (fun r11 u11 => R 1 u11 p1 p2 0) else if ((σ).1 14) = 0 then bnd (F_isIn σ ((σ).1 13) p1 p2) (fun r3 u3 => if r3 = 0 then bnd (F_fails u3 (-3)) (fun r5 u5 => R 1 u5 p1 p2 0) else R 1 u3 p1 p2 0) else R 1 σ p1 p2 0
def F_takes (n : Nat) (σ : Tw) (p1 : Int32) (p2 : Int32) : Option (Int32 × Tw) := F_takes_0 (F_takes_r n) n σ p1 p2
set_option maxHeartbeats 4000000 in
set_option maxRecDepth 100000 in
theorem mt_takes (l : Launch) (dC : Nat → ClassId) (dI : Nat → Nat → Nat) (cI cZ : ClassId) (m0 : Nat) (ad : Nat → Nat) (sz : Nat) (σ : Tw) (n : Nat)  (p1 : Int32) (p2 : Int32) (out : Int32 × Tw) (hF : F_takes n σ p1 p2 = some out) : Met l yX5_takes (ws_ yX5_takes cX5_takes 4 (some .int)) ({ frames := 3, cells := 0, slots := 0, locals := 62 }) (va_Pc [.ref m0, .int p1, .int p2] (tw_Pre dC dI cI cZ m0 ad sz σ)) (va_Qi (fun r u => (r, u) = out) (tw_B dC dI cI cZ m0 ad) (tw_A m0 ad sz)) 0 0 (tw_A m0 ad sz) := by
  refine Met.ofW (cc := cX5_takes) (maxL := 4) (ret := (some .int)) (by decide +kernel) rfl ?_
  intro p e s m args below meth c s₁ B hml hv
  obtain ⟨rfl, hsz, hP, hK, hD0⟩ := hv
  have hx := B.exec
  have hb := B.bytes
  have hr := B.returns
  have hts := atoms_spec (ws := (ws_ yX5_takes cX5_takes 4 (some .int))) B.pre
  have hts : ∀ w ∈ lw_all, w.before _ s = true := fun w h => hts w (List.mem_cons_of_mem _ h)
  have hown : s.vm.findClass RX5 = some m.cls := findClass_of_methodNamed B.named
  have hlocks := B.notSynchronized
  subst hsz
  have hD := tw_Ds (z := s.heap.size) hD0
  have hAA := fun z (h : s.heap.size ≤ z) => tw_Am (m0 := m0) (ad := ad) h
  generalize hAe : tw_A m0 ad s.heap.size = A at hD hAA ⊢
  have hS : va_S A s.heap s.heap [] := va_S.rf
  have hP : va_P (dC, dI) vwCl (tw_ws m0 ad cI cZ σ) s.heap := hP
  have hl := lv_entry ([.ref m0, .int p1, .int p2]) (n := 4) (Nat.le_of_ble_eq_true rfl)
  rw [lg_entry_eq]
  generalize (lg_sl ([.ref m0, .int p1, .int p2]) ++ List.replicate (4 - (lg_sl ([.ref m0, .int p1, .int p2])).length) Slot.unset).toArray = ls at hl ⊢
  have hl : lv_has ls 4 [(0, .ref m0), (1, .int p1), (2, .int p2)] := hl
  have loop : ∀ n : Nat, (∀ (σ : Tw) (x1 x2 x3 : Int32), F_takes_r n 1 σ x1 x2 x3 = some out → ∀ (H : Heap) (locs : List Loc), va_P (dC, dI) vwCl (tw_ws m0 ad cI cZ σ) H → va_D A (tw_ws m0 ad cI cZ σ) → va_S A s.heap H locs → ∀ ls : Array Slot, lv_has ls 4 [(0, .ref m0), (1, .int x1), (2, .int x2)] → W p l e (headSpec (ws_ yX5_takes cX5_takes 4 (some .int)) ({ frames := 3, cells := 0, slots := 0, locals := 62 })).room s m ([.ref m0, .int p1, .int p2] : List Value).toArray below meth c H locs 0 0 (MQ below (va_Qi (fun r u => (r, u) = out) (tw_B dC dI cI cZ m0 ad) A) ([.ref m0, .int p1, .int p2] : List Value).toArray s 0 0 A) (F0 m 49 ls [])) := by
    intro n
    induction n with
    | zero => exact (fun _ _ _ _ h => nomatch h)
    | succ n ih =>
      have lp1 := ih
      intro σ x1 x2 x3 hF H locs hP hD hS ls hl
      replace hF : F_takes_1 (F_takes_r n) n σ x1 x2 x3 = some out := hF
      unfold F_takes_1 at hF
      refine lv_aload_n hx hb dX5_takes_49 rfl (lv_at hl 0 rfl) ?_
      refine va_get (D := (dC, dI)) (ci := 0) (v := .int ((σ).1 14)) (C := RX5) (T := TX5) (N := 28) hx hb hts in_X5 hown hK hP 0 tw_g rfl 14 (by decide) (hts _ q2000) (fun _ h9 => h9) rfl dX5_takes_50 ?_
      refine lv_if_ne (tgt := 63) hx hb dX5_takes_53 (by decide) (fun c12 => ?_) (fun c12 => ?_)
      · replace hF := it_f c12 hF
        refine lv_iconst (v := 0) hx hb dX5_takes_63 (by decide) ?_
        refine lv_istore_n (lv' := [(3, .int 0), (0, .ref m0), (1, .int x1), (2, .int x2)]) hx hb dX5_takes_64 rfl hl (by decide) rfl (fun ls hl => ?_)
        refine lv_aload_n hx hb dX5_takes_65 rfl (lv_at hl 1 rfl) ?_
        refine va_get (D := (dC, dI)) (ci := 0) (v := .int ((σ).1 14)) (C := RX5) (T := TX5) (N := 28) hx hb hts in_X5 hown hK hP 0 tw_g rfl 14 (by decide) (hts _ q2000) (fun _ h9 => h9) rfl dX5_takes_66 ?_
        refine lv_if_ne (tgt := 76) hx hb dX5_takes_69 (by decide) (fun c13 => ?_) (fun c13 => ?_)
        · replace hF := it_f c13 hF
          refine lv_iload_n hx hb dX5_takes_76 rfl (lv_at hl 0 rfl) ?_
          exact W.iret (v := 0) hx hb hr (fun t ht hW => ⟨⟨0, σ, rfl, Option.some.inj hF, by rw [ht]; exact hP, va_K.moved hW.alike hK⟩, hS.F ht⟩) hS.2.2 dX5_takes_77
        · replace hF := it_t c13 hF
          refine lv_aload_n hx hb dX5_takes_72 rfl (lv_at hl 1 rfl) ?_
          obtain ⟨r14, u14, e14, hF⟩ := bnd_s hF
          refine tw_callv (va_runV (As := []) (rest := []) ⟨hx, hb, hml, hown, hts⟩ (mt_next l dC dI cI cZ m0 ad H.size σ n   _ e14) (cwV 0 hts (lw_V q2103 q2105 qs47 q125 q2106) rfl rfl rfl (by decide +kernel) ⟨Nat.le_of_ble_eq_true rfl, Nat.le_of_ble_eq_true rfl⟩) (tw_preV hK hP hD _) rfl rfl hl.1 rfl (lv_room (Nat.le_of_ble_eq_true rfl)) dX5_takes_73 ⟨Nat.le_of_ble_eq_true rfl, Nat.le_of_ble_eq_true rfl⟩) hS hD hAA (fun uu H locs hw hP hD hS => ?_)
          obtain rfl : u14 = uu := (congrArg Prod.snd hw).symm
          refine lv_iload_n hx hb dX5_takes_76 rfl (lv_at hl 0 rfl) ?_
          exact W.iret (v := 0) hx hb hr (fun t ht hW => ⟨⟨0, u14, rfl, Option.some.inj hF, by rw [ht]; exact hP, va_K.moved hW.alike hK⟩, hS.F ht⟩) hS.2.2 dX5_takes_77
      · replace hF := it_t c12 hF
        refine lv_aload_n hx hb dX5_takes_56 rfl (lv_at hl 0 rfl) ?_
        refine va_get (D := (dC, dI)) (ci := 0) (v := .int ((σ).1 13)) (C := RX5) (T := TX5) (N := 28) hx hb hts in_X5 hown hK hP 0 tw_g rfl 13 (by decide) (hts _ q1999) (fun _ h9 => h9) rfl dX5_takes_57 ?_
        refine lv_goto (tgt := 64) hx hb dX5_takes_60 (by decide) ?_
        refine lv_istore_n (lv' := [(3, .int ((σ).1 13)), (0, .ref m0), (1, .int x1), (2, .int x2)]) hx hb dX5_takes_64 rfl hl (by decide) rfl (fun ls hl => ?_)
        refine lv_aload_n hx hb dX5_takes_65 rfl (lv_at hl 1 rfl) ?_
        refine va_get (D := (dC, dI)) (ci := 0) (v := .int ((σ).1 14)) (C := RX5) (T := TX5) (N := 28) hx hb hts in_X5 hown hK hP 0 tw_g rfl 14 (by decide) (hts _ q2000) (fun _ h9 => h9) rfl dX5_takes_66 ?_
        refine lv_if_ne (tgt := 76) hx hb dX5_takes_69 (by decide) (fun c15 => ?_) (fun c15 => ?_)
        · replace hF := it_f c15 hF
          refine lv_iload_n hx hb dX5_takes_76 rfl (lv_at hl 0 rfl) ?_
          exact W.iret (v := ((σ).1 13)) hx hb hr (fun t ht hW => ⟨⟨((σ).1 13), σ, rfl, Option.some.inj hF, by rw [ht]; exact hP, va_K.moved hW.alike hK⟩, hS.F ht⟩) hS.2.2 dX5_takes_77
        · replace hF := it_t c15 hF
          refine lv_aload_n hx hb dX5_takes_72 rfl (lv_at hl 1 rfl) ?_
          obtain ⟨r16, u16, e16, hF⟩ := bnd_s hF
          refine tw_callv (va_runV (As := []) (rest := []) ⟨hx, hb, hml, hown, hts⟩ (mt_next l dC dI cI cZ m0 ad H.size σ n   _ e16) (cwV 0 hts (lw_V q2103 q2105 qs47 q125 q2106) rfl rfl rfl (by decide +kernel) ⟨Nat.le_of_ble_eq_true rfl, Nat.le_of_ble_eq_true rfl⟩) (tw_preV hK hP hD _) rfl rfl hl.1 rfl (lv_room (Nat.le_of_ble_eq_true rfl)) dX5_takes_73 ⟨Nat.le_of_ble_eq_true rfl, Nat.le_of_ble_eq_true rfl⟩) hS hD hAA (fun uu H locs hw hP hD hS => ?_)
          obtain rfl : u16 = uu := (congrArg Prod.snd hw).symm
          refine lv_iload_n hx hb dX5_takes_76 rfl (lv_at hl 0 rfl) ?_
          exact W.iret (v := ((σ).1 13)) hx hb hr (fun t ht hW => ⟨⟨((σ).1 13), u16, rfl, Option.some.inj hF, by rw [ht]; exact hP, va_K.moved hW.alike hK⟩, hS.F ht⟩) hS.2.2 dX5_takes_77
  have lp1 := loop n
  unfold F_takes F_takes_0 at hF
  refine lv_aload_n hx hb dX5_takes_0 rfl (lv_at hl 0 rfl) ?_
  refine va_get (D := (dC, dI)) (ci := 0) (v := .int ((σ).1 14)) (C := RX5) (T := TX5) (N := 28) hx hb hts in_X5 hown hK hP 0 tw_g rfl 14 (by decide) (hts _ q2000) (fun _ h9 => h9) rfl dX5_takes_1 ?_
  refine lv_if_ne (tgt := 24) hx hb dX5_takes_4 (by decide) (fun c1 => ?_) (fun c1 => ?_)
  · replace hF := it_f c1 hF
    refine lv_aload_n hx hb dX5_takes_24 rfl (lv_at hl 0 rfl) ?_
    refine va_get (D := (dC, dI)) (ci := 0) (v := .int ((σ).1 14)) (C := RX5) (T := TX5) (N := 28) hx hb hts in_X5 hown hK hP 0 tw_g rfl 14 (by decide) (hts _ q2000) (fun _ h9 => h9) rfl dX5_takes_25 ?_
    refine lv_if_ne (tgt := 49) hx hb dX5_takes_28 (by decide) (fun c2 => ?_) (fun c2 => ?_)
    · replace hF := it_f c2 hF
      exact lp1 σ p1 p2 0 hF _ _ hP hD hS ls (lv_sub hl [0, 1, 2] rfl)
    · replace hF := it_t c2 hF
      refine lv_aload_n hx hb dX5_takes_31 rfl (lv_at hl 0 rfl) ?_
      refine va_get (D := (dC, dI)) (ci := 0) (v := .int ((σ).1 13)) (C := RX5) (T := TX5) (N := 28) hx hb hts in_X5 hown hK hP 0 tw_g rfl 13 (by decide) (hts _ q1999) (fun _ h9 => h9) rfl dX5_takes_32 ?_
      refine lv_iload_n hx hb dX5_takes_35 rfl (lv_at hl 1 rfl) ?_
      refine lv_iload_n hx hb dX5_takes_36 rfl (lv_at hl 2 rfl) ?_
      obtain ⟨r3, u3, e3, hF⟩ := bnd_s hF
      refine tw_calli (va_runS (As := [.int ((σ).1 13), .int p1, .int p2]) (rest := []) ⟨hx, hb, hml, hown, hts⟩ (mt_isIn l dC dI cI cZ m0 ad s.heap.size σ  ((σ).1 13) p1 p2 _ e3) (va_cwS 3 hts (lw_S q2084 q2085 q125 q2086) rfl rfl rfl (by decide +kernel) ⟨Nat.le_of_ble_eq_true rfl, Nat.le_of_ble_eq_true rfl⟩) (tw_preS hK hP hD _) rfl rfl hl.1 rfl (lv_room (Nat.le_of_ble_eq_true rfl)) dX5_takes_37 ⟨Nat.le_of_ble_eq_true rfl, Nat.le_of_ble_eq_true rfl⟩) hS hD hAA (fun rr uu H locs hw hP hD hS => ?_)
      obtain rfl : r3 = rr := (congrArg Prod.fst hw).symm
      obtain rfl : u3 = uu := (congrArg Prod.snd hw).symm
      refine lv_if_ne (tgt := 49) hx hb dX5_takes_40 (by decide) (fun c4 => ?_) (fun c4 => ?_)
      · replace hF := it_f c4 hF
        exact lp1 u3 p1 p2 0 hF _ _ hP hD hS ls (lv_sub hl [0, 1, 2] rfl)
      · replace hF := it_t c4 hF
        refine lv_aload_n hx hb dX5_takes_43 rfl (lv_at hl 0 rfl) ?_
        refine lv_bipush (v := (-3)) hx hb dX5_takes_44 (by decide) ?_
        obtain ⟨r5, u5, e5, hF⟩ := bnd_s hF
        refine tw_callv (va_runV (As := [.int (-3)]) (rest := []) ⟨hx, hb, hml, hown, hts⟩ (mt_fails l dC dI cI cZ m0 ad H.size u3  (-3) _ e5) (cwV 1 hts (lw_V q2132 q2134 qs52 q125 q2135) rfl rfl rfl (by decide +kernel) ⟨Nat.le_of_ble_eq_true rfl, Nat.le_of_ble_eq_true rfl⟩) (tw_preV hK hP hD _) rfl rfl hl.1 rfl (lv_room (Nat.le_of_ble_eq_true rfl)) dX5_takes_46 ⟨Nat.le_of_ble_eq_true rfl, Nat.le_of_ble_eq_true rfl⟩) hS hD hAA (fun uu H locs hw hP hD hS => ?_)
        obtain rfl : u5 = uu := (congrArg Prod.snd hw).symm
        exact lp1 u5 p1 p2 0 hF _ _ hP hD hS ls (lv_sub hl [0, 1, 2] rfl)
  · replace hF := it_t c1 hF
    refine lv_aload_n hx hb dX5_takes_7 rfl (lv_at hl 0 rfl) ?_
    refine va_get (D := (dC, dI)) (ci := 0) (v := .int ((σ).1 12)) (C := RX5) (T := TX5) (N := 28) hx hb hts in_X5 hown hK hP 0 tw_g rfl 12 (by decide) (hts _ q1998) (fun _ h9 => h9) rfl dX5_takes_8 ?_
    refine lv_iconst (v := 1) hx hb dX5_takes_11 (by decide) ?_
    refine lv_icmp_eq (tgt := 24) hx hb dX5_takes_12 (by decide) (fun c6 => ?_) (fun c6 => ?_)
    · replace hF := it_t c6 hF
      refine lv_aload_n hx hb dX5_takes_24 rfl (lv_at hl 0 rfl) ?_
      refine va_get (D := (dC, dI)) (ci := 0) (v := .int ((σ).1 14)) (C := RX5) (T := TX5) (N := 28) hx hb hts in_X5 hown hK hP 0 tw_g rfl 14 (by decide) (hts _ q2000) (fun _ h9 => h9) rfl dX5_takes_25 ?_
      refine lv_if_ne (tgt := 49) hx hb dX5_takes_28 (by decide) (fun c7 => ?_) (fun c7 => ?_)
      · replace hF := it_f c7 hF
        exact lp1 σ p1 p2 0 hF _ _ hP hD hS ls (lv_sub hl [0, 1, 2] rfl)
      · replace hF := it_t c7 hF
        refine lv_aload_n hx hb dX5_takes_31 rfl (lv_at hl 0 rfl) ?_
        refine va_get (D := (dC, dI)) (ci := 0) (v := .int ((σ).1 13)) (C := RX5) (T := TX5) (N := 28) hx hb hts in_X5 hown hK hP 0 tw_g rfl 13 (by decide) (hts _ q1999) (fun _ h9 => h9) rfl dX5_takes_32 ?_
        refine lv_iload_n hx hb dX5_takes_35 rfl (lv_at hl 1 rfl) ?_
        refine lv_iload_n hx hb dX5_takes_36 rfl (lv_at hl 2 rfl) ?_
        obtain ⟨r8, u8, e8, hF⟩ := bnd_s hF
        refine tw_calli (va_runS (As := [.int ((σ).1 13), .int p1, .int p2]) (rest := []) ⟨hx, hb, hml, hown, hts⟩ (mt_isIn l dC dI cI cZ m0 ad s.heap.size σ  ((σ).1 13) p1 p2 _ e8) (va_cwS 3 hts (lw_S q2084 q2085 q125 q2086) rfl rfl rfl (by decide +kernel) ⟨Nat.le_of_ble_eq_true rfl, Nat.le_of_ble_eq_true rfl⟩) (tw_preS hK hP hD _) rfl rfl hl.1 rfl (lv_room (Nat.le_of_ble_eq_true rfl)) dX5_takes_37 ⟨Nat.le_of_ble_eq_true rfl, Nat.le_of_ble_eq_true rfl⟩) hS hD hAA (fun rr uu H locs hw hP hD hS => ?_)
        obtain rfl : r8 = rr := (congrArg Prod.fst hw).symm
        obtain rfl : u8 = uu := (congrArg Prod.snd hw).symm
        refine lv_if_ne (tgt := 49) hx hb dX5_takes_40 (by decide) (fun c9 => ?_) (fun c9 => ?_)
        · replace hF := it_f c9 hF
          exact lp1 u8 p1 p2 0 hF _ _ hP hD hS ls (lv_sub hl [0, 1, 2] rfl)
        · replace hF := it_t c9 hF
          refine lv_aload_n hx hb dX5_takes_43 rfl (lv_at hl 0 rfl) ?_
          refine lv_bipush (v := (-3)) hx hb dX5_takes_44 (by decide) ?_
          obtain ⟨r10, u10, e10, hF⟩ := bnd_s hF
          refine tw_callv (va_runV (As := [.int (-3)]) (rest := []) ⟨hx, hb, hml, hown, hts⟩ (mt_fails l dC dI cI cZ m0 ad H.size u8  (-3) _ e10) (cwV 1 hts (lw_V q2132 q2134 qs52 q125 q2135) rfl rfl rfl (by decide +kernel) ⟨Nat.le_of_ble_eq_true rfl, Nat.le_of_ble_eq_true rfl⟩) (tw_preV hK hP hD _) rfl rfl hl.1 rfl (lv_room (Nat.le_of_ble_eq_true rfl)) dX5_takes_46 ⟨Nat.le_of_ble_eq_true rfl, Nat.le_of_ble_eq_true rfl⟩) hS hD hAA (fun uu H locs hw hP hD hS => ?_)
          obtain rfl : u10 = uu := (congrArg Prod.snd hw).symm
          exact lp1 u10 p1 p2 0 hF _ _ hP hD hS ls (lv_sub hl [0, 1, 2] rfl)
    · replace hF := it_f c6 hF
      refine lv_aload_n hx hb dX5_takes_15 rfl (lv_at hl 0 rfl) ?_
      refine lv_bipush (v := (-2)) hx hb dX5_takes_16 (by decide) ?_
      obtain ⟨r11, u11, e11, hF⟩ := bnd_s hF
      refine tw_callv (va_runV (As := [.int (-2)]) (rest := []) ⟨hx, hb, hml, hown, hts⟩ (mt_fails l dC dI cI cZ m0 ad s.heap.size σ  (-2) _ e11) (cwV 1 hts (lw_V q2132 q2134 qs52 q125 q2135) rfl rfl rfl (by decide +kernel) ⟨Nat.le_of_ble_eq_true rfl, Nat.le_of_ble_eq_true rfl⟩) (tw_preV hK hP hD _) rfl rfl hl.1 rfl (lv_room (Nat.le_of_ble_eq_true rfl)) dX5_takes_18 ⟨Nat.le_of_ble_eq_true rfl, Nat.le_of_ble_eq_true rfl⟩) hS hD hAA (fun uu H locs hw hP hD hS => ?_)
      obtain rfl : u11 = uu := (congrArg Prod.snd hw).symm
      refine lv_goto (tgt := 49) hx hb dX5_takes_21 (by decide) ?_
      exact lp1 u11 p1 p2 0 hF _ _ hP hD hS ls (lv_sub hl [0, 1, 2] rfl)

def F_isPrime_1 (R : Nat → Tw → Int32 → Int32 → Int32 → Option (Int32 × Tw)) (n : Nat) (σ : Tw) (x0 : Int32) (x1 : Int32) (x2 : Int32) : Option (Int32 × Tw) := if x0 ≤ x2 then gd (zbB x1) (some (x1, σ)) else if x1 = 0 then R 1 σ x0 0 (x2 + 1) else gd (nzB x2) (if (x0 - x0 / x2 * x2) = 0 then R 1 σ x0 0 (x2 + 1) else R 1 σ x0 1 (x2 + 1))
def F_isPrime_r : Nat → Nat → Tw → Int32 → Int32 → Int32 → Option (Int32 × Tw)
  | 0 => fun _ _ _ _ _ => none
  | n + 1 => fun k => match k with  | _ => F_isPrime_1 (F_isPrime_r n) n
def F_isPrime_0 (R : Nat → Tw → Int32 → Int32 → Int32 → Option (Int32 × Tw)) (n : Nat) (σ : Tw) (p0 : Int32) : Option (Int32 × Tw) := if p0 < 3 then R 1 σ p0 0 2 else R 1 σ p0 1 2
def F_isPrime (n : Nat) (σ : Tw) (p0 : Int32) : Option (Int32 × Tw) := F_isPrime_0 (F_isPrime_r n) n σ p0
set_option maxHeartbeats 4000000 in
set_option maxRecDepth 100000 in
theorem mt_isPrime (l : Launch) (dC : Nat → ClassId) (dI : Nat → Nat → Nat) (cI cZ : ClassId) (m0 : Nat) (ad : Nat → Nat) (sz : Nat) (σ : Tw) (n : Nat)  (p0 : Int32) (out : Int32 × Tw) (hF : F_isPrime n σ p0 = some out) : Met l yX5_isPrime (ws_ yX5_isPrime cX5_isPrime 3 (some .boolean)) ({ frames := 0, cells := 0, slots := 0, locals := 0 }) (va_Pc [.int p0] (tw_Pre dC dI cI cZ m0 ad sz σ)) (va_Qi (fun r u => (r, u) = out) (tw_B dC dI cI cZ m0 ad) (tw_A m0 ad sz)) 0 0 (tw_A m0 ad sz) := by
  refine Met.ofW (cc := cX5_isPrime) (maxL := 3) (ret := (some .boolean)) (by decide +kernel) rfl ?_
  intro p e s m args below meth c s₁ B hml hv
  obtain ⟨rfl, hsz, hP, hK, hD0⟩ := hv
  have hx := B.exec
  have hb := B.bytes
  have hr := B.returns
  have hts := atoms_spec (ws := (ws_ yX5_isPrime cX5_isPrime 3 (some .boolean))) B.pre
  have hts : ∀ w ∈ lw_all, w.before _ s = true := fun w h => hts w (List.mem_cons_of_mem _ h)
  have hown : s.vm.findClass RX5 = some m.cls := findClass_of_methodNamed B.named
  have hlocks := B.notSynchronized
  subst hsz
  have hD := tw_Ds (z := s.heap.size) hD0
  have hAA := fun z (h : s.heap.size ≤ z) => tw_Am (m0 := m0) (ad := ad) h
  generalize hAe : tw_A m0 ad s.heap.size = A at hD hAA ⊢
  have hS : va_S A s.heap s.heap [] := va_S.rf
  have hP : va_P (dC, dI) vwCl (tw_ws m0 ad cI cZ σ) s.heap := hP
  have hl := lv_entry ([.int p0]) (n := 3) (Nat.le_of_ble_eq_true rfl)
  rw [lg_entry_eq]
  generalize (lg_sl ([.int p0]) ++ List.replicate (3 - (lg_sl ([.int p0])).length) Slot.unset).toArray = ls at hl ⊢
  have hl : lv_has ls 3 [(0, .int p0)] := hl
  have loop : ∀ n : Nat, (∀ (σ : Tw) (x0 x1 x2 : Int32), F_isPrime_r n 1 σ x0 x1 x2 = some out → ∀ (H : Heap) (locs : List Loc), va_P (dC, dI) vwCl (tw_ws m0 ad cI cZ σ) H → va_D A (tw_ws m0 ad cI cZ σ) → va_S A s.heap H locs → ∀ ls : Array Slot, lv_has ls 3 [(0, .int x0), (1, .int x1), (2, .int x2)] → W p l e (headSpec (ws_ yX5_isPrime cX5_isPrime 3 (some .boolean)) ({ frames := 0, cells := 0, slots := 0, locals := 0 })).room s m ([.int p0] : List Value).toArray below meth c H locs 0 0 (MQ below (va_Qi (fun r u => (r, u) = out) (tw_B dC dI cI cZ m0 ad) A) ([.int p0] : List Value).toArray s 0 0 A) (F0 m 13 ls [])) := by
    intro n
    induction n with
    | zero => exact (fun _ _ _ _ h => nomatch h)
    | succ n ih =>
      have lp1 := ih
      intro σ x0 x1 x2 hF H locs hP hD hS ls hl
      replace hF : F_isPrime_1 (F_isPrime_r n) n σ x0 x1 x2 = some out := hF
      unfold F_isPrime_1 at hF
      refine lv_iload_n hx hb dX5_isPrime_13 rfl (lv_at hl 2 rfl) ?_
      refine lv_iload_n hx hb dX5_isPrime_14 rfl (lv_at hl 0 rfl) ?_
      refine lv_icmp_ge (tgt := 40) hx hb dX5_isPrime_15 (by decide) (fun c2 => ?_) (fun c2 => ?_)
      · replace hF := it_t c2 hF
        refine lv_iload_n hx hb dX5_isPrime_40 rfl (lv_at hl 1 rfl) ?_
        obtain ⟨g3, hF⟩ := gd_s hF
        exact W.zret (v := x1) hx hb hr (zb_of g3) (fun t ht hW => ⟨⟨x1, σ, rfl, Option.some.inj hF, by rw [ht]; exact hP, va_K.moved hW.alike hK⟩, hS.F ht⟩) hS.2.2 dX5_isPrime_41
      · replace hF := it_f c2 hF
        refine lv_iload_n hx hb dX5_isPrime_18 rfl (lv_at hl 1 rfl) ?_
        refine lv_if_eq (tgt := 32) hx hb dX5_isPrime_19 (by decide) (fun c4 => ?_) (fun c4 => ?_)
        · replace hF := it_t c4 hF
          refine lv_iconst (v := 0) hx hb dX5_isPrime_32 (by decide) ?_
          refine lv_istore_n (lv' := [(1, .int 0), (0, .int x0), (2, .int x2)]) hx hb dX5_isPrime_33 rfl hl (by decide) rfl (fun ls hl => ?_)
          refine lv_iinc (v := (x2 + 1)) (lv' := [(2, .int (x2 + 1)), (1, .int 0), (0, .int x0)]) hx hb dX5_isPrime_34 hl (k := 2) rfl rfl (by decide) rfl (fun ls hl => ?_)
          refine lv_goto (tgt := 13) hx hb dX5_isPrime_37 (by decide) ?_
          exact lp1 σ x0 0 (x2 + 1) hF _ _ hP hD hS ls (lv_sub hl [2, 1, 0] rfl)
        · replace hF := it_f c4 hF
          refine lv_iload_n hx hb dX5_isPrime_22 rfl (lv_at hl 0 rfl) ?_
          refine lv_iload_n hx hb dX5_isPrime_23 rfl (lv_at hl 2 rfl) ?_
          obtain ⟨g5, hF⟩ := gd_s hF
          refine lv_irem hx hb dX5_isPrime_24 (nz_of g5) ?_
          refine lv_if_eq (tgt := 32) hx hb dX5_isPrime_25 (by decide) (fun c6 => ?_) (fun c6 => ?_)
          · replace hF := it_t c6 hF
            refine lv_iconst (v := 0) hx hb dX5_isPrime_32 (by decide) ?_
            refine lv_istore_n (lv' := [(1, .int 0), (0, .int x0), (2, .int x2)]) hx hb dX5_isPrime_33 rfl hl (by decide) rfl (fun ls hl => ?_)
            refine lv_iinc (v := (x2 + 1)) (lv' := [(2, .int (x2 + 1)), (1, .int 0), (0, .int x0)]) hx hb dX5_isPrime_34 hl (k := 2) rfl rfl (by decide) rfl (fun ls hl => ?_)
            refine lv_goto (tgt := 13) hx hb dX5_isPrime_37 (by decide) ?_
            exact lp1 σ x0 0 (x2 + 1) hF _ _ hP hD hS ls (lv_sub hl [2, 1, 0] rfl)
          · replace hF := it_f c6 hF
            refine lv_iconst (v := 1) hx hb dX5_isPrime_28 (by decide) ?_
            refine lv_goto (tgt := 33) hx hb dX5_isPrime_29 (by decide) ?_
            refine lv_istore_n (lv' := [(1, .int 1), (0, .int x0), (2, .int x2)]) hx hb dX5_isPrime_33 rfl hl (by decide) rfl (fun ls hl => ?_)
            refine lv_iinc (v := (x2 + 1)) (lv' := [(2, .int (x2 + 1)), (1, .int 1), (0, .int x0)]) hx hb dX5_isPrime_34 hl (k := 2) rfl rfl (by decide) rfl (fun ls hl => ?_)
            refine lv_goto (tgt := 13) hx hb dX5_isPrime_37 (by decide) ?_
            exact lp1 σ x0 1 (x2 + 1) hF _ _ hP hD hS ls (lv_sub hl [2, 1, 0] rfl)
  have lp1 := loop n
  unfold F_isPrime F_isPrime_0 at hF
  refine lv_iload_n hx hb dX5_isPrime_0 rfl (lv_at hl 0 rfl) ?_
  refine lv_iconst (v := 3) hx hb dX5_isPrime_1 (by decide) ?_
  refine lv_icmp_lt (tgt := 9) hx hb dX5_isPrime_2 (by decide) (fun c1 => ?_) (fun c1 => ?_)
  · replace hF := it_t c1 hF
    refine lv_iconst (v := 0) hx hb dX5_isPrime_9 (by decide) ?_
    refine lv_istore_n (lv' := [(1, .int 0), (0, .int p0)]) hx hb dX5_isPrime_10 rfl hl (by decide) rfl (fun ls hl => ?_)
    refine lv_iconst (v := 2) hx hb dX5_isPrime_11 (by decide) ?_
    refine lv_istore_n (lv' := [(2, .int 2), (1, .int 0), (0, .int p0)]) hx hb dX5_isPrime_12 rfl hl (by decide) rfl (fun ls hl => ?_)
    exact lp1 σ p0 0 2 hF _ _ hP hD hS ls (lv_sub hl [2, 1, 0] rfl)
  · replace hF := it_f c1 hF
    refine lv_iconst (v := 1) hx hb dX5_isPrime_5 (by decide) ?_
    refine lv_goto (tgt := 10) hx hb dX5_isPrime_6 (by decide) ?_
    refine lv_istore_n (lv' := [(1, .int 1), (0, .int p0)]) hx hb dX5_isPrime_10 rfl hl (by decide) rfl (fun ls hl => ?_)
    refine lv_iconst (v := 2) hx hb dX5_isPrime_11 (by decide) ?_
    refine lv_istore_n (lv' := [(2, .int 2), (1, .int 1), (0, .int p0)]) hx hb dX5_isPrime_12 rfl hl (by decide) rfl (fun ls hl => ?_)
    exact lp1 σ p0 1 2 hF _ _ hP hD hS ls (lv_sub hl [2, 1, 0] rfl)

def F_mustEnd (n : Nat) (σ : Tw) : Option (Int32 × Tw) := if ((σ).1 12) = 2 then bnd (F_see σ ((σ).1 10)) (fun r3 u3 => if r3 = 59 then bnd (F_must n u3 1) (fun r6 u6 => some (0, u6)) else bnd (F_must n u3 0) (fun r5 u5 => some (0, u5))) else bnd (F_must n σ 0) (fun r2 u2 => some (0, u2))
set_option maxHeartbeats 4000000 in
set_option maxRecDepth 100000 in
theorem mt_mustEnd (l : Launch) (dC : Nat → ClassId) (dI : Nat → Nat → Nat) (cI cZ : ClassId) (m0 : Nat) (ad : Nat → Nat) (sz : Nat) (σ : Tw) (n : Nat)  (out : Int32 × Tw) (hF : F_mustEnd n σ  = some out) : Met l yX5_mustEnd (ws_ yX5_mustEnd cX5_mustEnd 1 none) ({ frames := 4, cells := 0, slots := 0, locals := 83 }) (va_Pc [.ref m0] (tw_Pre dC dI cI cZ m0 ad sz σ)) (va_Qv (fun u => (0, u) = out) (tw_B dC dI cI cZ m0 ad) (tw_A m0 ad sz)) 0 0 (tw_A m0 ad sz) := by
  refine Met.ofW (cc := cX5_mustEnd) (maxL := 1) (ret := none) (by decide +kernel) rfl ?_
  intro p e s m args below meth c s₁ B hml hv
  obtain ⟨rfl, hsz, hP, hK, hD0⟩ := hv
  have hx := B.exec
  have hb := B.bytes
  have hr := B.returns
  have hts := atoms_spec (ws := (ws_ yX5_mustEnd cX5_mustEnd 1 none)) B.pre
  have hts : ∀ w ∈ lw_all, w.before _ s = true := fun w h => hts w (List.mem_cons_of_mem _ h)
  have hown : s.vm.findClass RX5 = some m.cls := findClass_of_methodNamed B.named
  have hlocks := B.notSynchronized
  subst hsz
  have hD := tw_Ds (z := s.heap.size) hD0
  have hAA := fun z (h : s.heap.size ≤ z) => tw_Am (m0 := m0) (ad := ad) h
  generalize hAe : tw_A m0 ad s.heap.size = A at hD hAA ⊢
  have hS : va_S A s.heap s.heap [] := va_S.rf
  have hP : va_P (dC, dI) vwCl (tw_ws m0 ad cI cZ σ) s.heap := hP
  have hl := lv_entry ([.ref m0]) (n := 1) (Nat.le_of_ble_eq_true rfl)
  rw [lg_entry_eq]
  generalize (lg_sl ([.ref m0]) ++ List.replicate (1 - (lg_sl ([.ref m0])).length) Slot.unset).toArray = ls at hl ⊢
  have hl : lv_has ls 1 [(0, .ref m0)] := hl
  unfold F_mustEnd at hF
  refine lv_aload_n hx hb dX5_mustEnd_0 rfl (lv_at hl 0 rfl) ?_
  refine lv_aload_n hx hb dX5_mustEnd_1 rfl (lv_at hl 0 rfl) ?_
  refine va_get (D := (dC, dI)) (ci := 0) (v := .int ((σ).1 12)) (C := RX5) (T := TX5) (N := 28) hx hb hts in_X5 hown hK hP 0 tw_g rfl 12 (by decide) (hts _ q1998) (fun _ h9 => h9) rfl dX5_mustEnd_2 ?_
  refine lv_iconst (v := 2) hx hb dX5_mustEnd_5 (by decide) ?_
  refine lv_icmp_ne (tgt := 26) hx hb dX5_mustEnd_6 (by decide) (fun c1 => ?_) (fun c1 => ?_)
  · replace hF := it_f c1 hF
    refine lv_iconst (v := 0) hx hb dX5_mustEnd_26 (by decide) ?_
    obtain ⟨r2, u2, e2, hF⟩ := bnd_s hF
    refine tw_callv (va_runV (As := [.int 0]) (rest := []) ⟨hx, hb, hml, hown, hts⟩ (mt_must l dC dI cI cZ m0 ad s.heap.size σ n  0 _ e2) (cwV 1 hts (lw_V q2128 q2130 qs51 q125 q2131) rfl rfl rfl (by decide +kernel) ⟨Nat.le_of_ble_eq_true rfl, Nat.le_of_ble_eq_true rfl⟩) (tw_preV hK hP hD _) rfl rfl hl.1 rfl (lv_room (Nat.le_of_ble_eq_true rfl)) dX5_mustEnd_27 ⟨Nat.le_of_ble_eq_true rfl, Nat.le_of_ble_eq_true rfl⟩) hS hD hAA (fun uu H locs hw hP hD hS => ?_)
    obtain rfl : u2 = uu := (congrArg Prod.snd hw).symm
    exact W.vret hx hb hr (fun t ht hW => ⟨⟨u2, rfl, Option.some.inj hF, by rw [ht]; exact hP, va_K.moved hW.alike hK⟩, hS.F ht⟩) hS.2.2 dX5_mustEnd_30
  · replace hF := it_t c1 hF
    refine lv_aload_n hx hb dX5_mustEnd_9 rfl (lv_at hl 0 rfl) ?_
    refine lv_aload_n hx hb dX5_mustEnd_10 rfl (lv_at hl 0 rfl) ?_
    refine va_get (D := (dC, dI)) (ci := 0) (v := .int ((σ).1 10)) (C := RX5) (T := TX5) (N := 28) hx hb hts in_X5 hown hK hP 0 tw_g rfl 10 (by decide) (hts _ q1996) (fun _ h9 => h9) rfl dX5_mustEnd_11 ?_
    obtain ⟨r3, u3, e3, hF⟩ := bnd_s hF
    refine tw_calli (va_runV (As := [.int ((σ).1 10)]) (rest := [.ref m0]) ⟨hx, hb, hml, hown, hts⟩ (mt_see l dC dI cI cZ m0 ad s.heap.size σ  ((σ).1 10) _ e3) (cwV 1 hts (lw_V q2107 q2109 qs48 q125 q2110) rfl rfl rfl (by decide +kernel) ⟨Nat.le_of_ble_eq_true rfl, Nat.le_of_ble_eq_true rfl⟩) (tw_preV hK hP hD _) rfl rfl hl.1 rfl (lv_room (Nat.le_of_ble_eq_true rfl)) dX5_mustEnd_14 ⟨Nat.le_of_ble_eq_true rfl, Nat.le_of_ble_eq_true rfl⟩) hS hD hAA (fun rr uu H locs hw hP hD hS => ?_)
    obtain rfl : r3 = rr := (congrArg Prod.fst hw).symm
    obtain rfl : u3 = uu := (congrArg Prod.snd hw).symm
    refine lv_bipush (v := 59) hx hb dX5_mustEnd_17 (by decide) ?_
    refine lv_icmp_ne (tgt := 26) hx hb dX5_mustEnd_19 (by decide) (fun c4 => ?_) (fun c4 => ?_)
    · replace hF := it_f c4 hF
      refine lv_iconst (v := 0) hx hb dX5_mustEnd_26 (by decide) ?_
      obtain ⟨r5, u5, e5, hF⟩ := bnd_s hF
      refine tw_callv (va_runV (As := [.int 0]) (rest := []) ⟨hx, hb, hml, hown, hts⟩ (mt_must l dC dI cI cZ m0 ad H.size u3 n  0 _ e5) (cwV 1 hts (lw_V q2128 q2130 qs51 q125 q2131) rfl rfl rfl (by decide +kernel) ⟨Nat.le_of_ble_eq_true rfl, Nat.le_of_ble_eq_true rfl⟩) (tw_preV hK hP hD _) rfl rfl hl.1 rfl (lv_room (Nat.le_of_ble_eq_true rfl)) dX5_mustEnd_27 ⟨Nat.le_of_ble_eq_true rfl, Nat.le_of_ble_eq_true rfl⟩) hS hD hAA (fun uu H locs hw hP hD hS => ?_)
      obtain rfl : u5 = uu := (congrArg Prod.snd hw).symm
      exact W.vret hx hb hr (fun t ht hW => ⟨⟨u5, rfl, Option.some.inj hF, by rw [ht]; exact hP, va_K.moved hW.alike hK⟩, hS.F ht⟩) hS.2.2 dX5_mustEnd_30
    · replace hF := it_t c4 hF
      refine lv_iconst (v := 1) hx hb dX5_mustEnd_22 (by decide) ?_
      refine lv_goto (tgt := 27) hx hb dX5_mustEnd_23 (by decide) ?_
      obtain ⟨r6, u6, e6, hF⟩ := bnd_s hF
      refine tw_callv (va_runV (As := [.int 1]) (rest := []) ⟨hx, hb, hml, hown, hts⟩ (mt_must l dC dI cI cZ m0 ad H.size u3 n  1 _ e6) (cwV 1 hts (lw_V q2128 q2130 qs51 q125 q2131) rfl rfl rfl (by decide +kernel) ⟨Nat.le_of_ble_eq_true rfl, Nat.le_of_ble_eq_true rfl⟩) (tw_preV hK hP hD _) rfl rfl hl.1 rfl (lv_room (Nat.le_of_ble_eq_true rfl)) dX5_mustEnd_27 ⟨Nat.le_of_ble_eq_true rfl, Nat.le_of_ble_eq_true rfl⟩) hS hD hAA (fun uu H locs hw hP hD hS => ?_)
      obtain rfl : u6 = uu := (congrArg Prod.snd hw).symm
      exact W.vret hx hb hr (fun t ht hW => ⟨⟨u6, rfl, Option.some.inj hF, by rw [ht]; exact hP, va_K.moved hW.alike hK⟩, hS.F ht⟩) hS.2.2 dX5_mustEnd_30

def F_readsCell (n : Nat) (σ : Tw) : Option (Int32 × Tw) := bnd (F_must n σ 1) (fun r1 u1 => gd (inB 1 162) (bnd (F_takes n u1 0 (((u1).2 1 (1 : Int32).toNatClampNeg) - 1)) (fun r3 u3 => gd (inB 1 162) (bnd (F_takes n u3 0 (((u3).2 1 (1 : Int32).toNatClampNeg) - 1)) (fun r5 u5 => gd (inB 0 162) (bnd (F_takes n u5 0 (((u5).2 1 (0 : Int32).toNatClampNeg) - 1)) (fun r7 u7 => if ((u7).1 14) = 0 then gd (inB ((9 + (8 * r3)) + r5) 162) (gd (inB ((9 + (8 * r5)) + r3) 162) (some (0, (tw_sa (tw_sa u7 1 (((9 + (8 * r3)) + r5)).toNatClampNeg r7) 1 (((9 + (8 * r5)) + r3)).toNatClampNeg r7)))) else some (0, u7))))))))
set_option maxHeartbeats 4000000 in
set_option maxRecDepth 100000 in
theorem mt_readsCell (l : Launch) (dC : Nat → ClassId) (dI : Nat → Nat → Nat) (cI cZ : ClassId) (m0 : Nat) (ad : Nat → Nat) (sz : Nat) (σ : Tw) (n : Nat)  (out : Int32 × Tw) (hF : F_readsCell n σ  = some out) : Met l yX5_readsCell (ws_ yX5_readsCell cX5_readsCell 4 none) ({ frames := 4, cells := 0, slots := 0, locals := 85 }) (va_Pc [.ref m0] (tw_Pre dC dI cI cZ m0 ad sz σ)) (va_Qv (fun u => (0, u) = out) (tw_B dC dI cI cZ m0 ad) (tw_A m0 ad sz)) 0 0 (tw_A m0 ad sz) := by
  refine Met.ofW (cc := cX5_readsCell) (maxL := 4) (ret := none) (by decide +kernel) rfl ?_
  intro p e s m args below meth c s₁ B hml hv
  obtain ⟨rfl, hsz, hP, hK, hD0⟩ := hv
  have hx := B.exec
  have hb := B.bytes
  have hr := B.returns
  have hts := atoms_spec (ws := (ws_ yX5_readsCell cX5_readsCell 4 none)) B.pre
  have hts : ∀ w ∈ lw_all, w.before _ s = true := fun w h => hts w (List.mem_cons_of_mem _ h)
  have hown : s.vm.findClass RX5 = some m.cls := findClass_of_methodNamed B.named
  have hlocks := B.notSynchronized
  subst hsz
  have hD := tw_Ds (z := s.heap.size) hD0
  have hAA := fun z (h : s.heap.size ≤ z) => tw_Am (m0 := m0) (ad := ad) h
  generalize hAe : tw_A m0 ad s.heap.size = A at hD hAA ⊢
  have hS : va_S A s.heap s.heap [] := va_S.rf
  have hP : va_P (dC, dI) vwCl (tw_ws m0 ad cI cZ σ) s.heap := hP
  have hl := lv_entry ([.ref m0]) (n := 4) (Nat.le_of_ble_eq_true rfl)
  rw [lg_entry_eq]
  generalize (lg_sl ([.ref m0]) ++ List.replicate (4 - (lg_sl ([.ref m0])).length) Slot.unset).toArray = ls at hl ⊢
  have hl : lv_has ls 4 [(0, .ref m0)] := hl
  unfold F_readsCell at hF
  refine lv_aload_n hx hb dX5_readsCell_0 rfl (lv_at hl 0 rfl) ?_
  refine lv_iconst (v := 1) hx hb dX5_readsCell_1 (by decide) ?_
  obtain ⟨r1, u1, e1, hF⟩ := bnd_s hF
  refine tw_callv (va_runV (As := [.int 1]) (rest := []) ⟨hx, hb, hml, hown, hts⟩ (mt_must l dC dI cI cZ m0 ad s.heap.size σ n  1 _ e1) (cwV 1 hts (lw_V q2128 q2130 qs51 q125 q2131) rfl rfl rfl (by decide +kernel) ⟨Nat.le_of_ble_eq_true rfl, Nat.le_of_ble_eq_true rfl⟩) (tw_preV hK hP hD _) rfl rfl hl.1 rfl (lv_room (Nat.le_of_ble_eq_true rfl)) dX5_readsCell_2 ⟨Nat.le_of_ble_eq_true rfl, Nat.le_of_ble_eq_true rfl⟩) hS hD hAA (fun uu H locs hw hP hD hS => ?_)
  obtain rfl : u1 = uu := (congrArg Prod.snd hw).symm
  refine lv_aload_n hx hb dX5_readsCell_5 rfl (lv_at hl 0 rfl) ?_
  refine lv_iconst (v := 0) hx hb dX5_readsCell_6 (by decide) ?_
  refine lv_aload_n hx hb dX5_readsCell_7 rfl (lv_at hl 0 rfl) ?_
  refine va_get (D := (dC, dI)) (ci := 0) (v := .ref (ad 1)) (C := RX5) (T := TX5) (N := 28) hx hb hts in_X5 hown hK hP 0 tw_g rfl 1 (by decide) (hts _ q1987) (fun _ h9 => h9) rfl dX5_readsCell_8 ?_
  refine lv_iconst (v := 1) hx hb dX5_readsCell_11 (by decide) ?_
  obtain ⟨g2, hF⟩ := gd_s hF
  refine va_iald hx hb hK hP 2 0 tw_e1 rfl (inB_in g2) dX5_readsCell_12 ?_
  refine lv_iconst (v := 1) hx hb dX5_readsCell_13 (by decide) ?_
  refine lv_isub hx hb dX5_readsCell_14 ?_
  obtain ⟨r3, u3, e3, hF⟩ := bnd_s hF
  refine tw_calli (va_runV (As := [.int 0, .int (((u1).2 1 (1 : Int32).toNatClampNeg) - 1)]) (rest := []) ⟨hx, hb, hml, hown, hts⟩ (mt_takes l dC dI cI cZ m0 ad H.size u1 n  0 (((u1).2 1 (1 : Int32).toNatClampNeg) - 1) _ e3) (cwV 2 hts (lw_V q2139 q2141 qs53 q125 q2142) rfl rfl rfl (by decide +kernel) ⟨Nat.le_of_ble_eq_true rfl, Nat.le_of_ble_eq_true rfl⟩) (tw_preV hK hP hD _) rfl rfl hl.1 rfl (lv_room (Nat.le_of_ble_eq_true rfl)) dX5_readsCell_15 ⟨Nat.le_of_ble_eq_true rfl, Nat.le_of_ble_eq_true rfl⟩) hS hD hAA (fun rr uu H locs hw hP hD hS => ?_)
  obtain rfl : r3 = rr := (congrArg Prod.fst hw).symm
  obtain rfl : u3 = uu := (congrArg Prod.snd hw).symm
  refine lv_istore_n (lv' := [(1, .int r3), (0, .ref m0)]) hx hb dX5_readsCell_18 rfl hl (by decide) rfl (fun ls hl => ?_)
  refine lv_aload_n hx hb dX5_readsCell_19 rfl (lv_at hl 1 rfl) ?_
  refine lv_iconst (v := 0) hx hb dX5_readsCell_20 (by decide) ?_
  refine lv_aload_n hx hb dX5_readsCell_21 rfl (lv_at hl 1 rfl) ?_
  refine va_get (D := (dC, dI)) (ci := 0) (v := .ref (ad 1)) (C := RX5) (T := TX5) (N := 28) hx hb hts in_X5 hown hK hP 0 tw_g rfl 1 (by decide) (hts _ q1987) (fun _ h9 => h9) rfl dX5_readsCell_22 ?_
  refine lv_iconst (v := 1) hx hb dX5_readsCell_25 (by decide) ?_
  obtain ⟨g4, hF⟩ := gd_s hF
  refine va_iald hx hb hK hP 2 0 tw_e1 rfl (inB_in g4) dX5_readsCell_26 ?_
  refine lv_iconst (v := 1) hx hb dX5_readsCell_27 (by decide) ?_
  refine lv_isub hx hb dX5_readsCell_28 ?_
  obtain ⟨r5, u5, e5, hF⟩ := bnd_s hF
  refine tw_calli (va_runV (As := [.int 0, .int (((u3).2 1 (1 : Int32).toNatClampNeg) - 1)]) (rest := []) ⟨hx, hb, hml, hown, hts⟩ (mt_takes l dC dI cI cZ m0 ad H.size u3 n  0 (((u3).2 1 (1 : Int32).toNatClampNeg) - 1) _ e5) (cwV 2 hts (lw_V q2139 q2141 qs53 q125 q2142) rfl rfl rfl (by decide +kernel) ⟨Nat.le_of_ble_eq_true rfl, Nat.le_of_ble_eq_true rfl⟩) (tw_preV hK hP hD _) rfl rfl hl.1 rfl (lv_room (Nat.le_of_ble_eq_true rfl)) dX5_readsCell_29 ⟨Nat.le_of_ble_eq_true rfl, Nat.le_of_ble_eq_true rfl⟩) hS hD hAA (fun rr uu H locs hw hP hD hS => ?_)
  obtain rfl : r5 = rr := (congrArg Prod.fst hw).symm
  obtain rfl : u5 = uu := (congrArg Prod.snd hw).symm
  refine lv_istore_n (lv' := [(2, .int r5), (1, .int r3), (0, .ref m0)]) hx hb dX5_readsCell_32 rfl hl (by decide) rfl (fun ls hl => ?_)
  refine lv_aload_n hx hb dX5_readsCell_33 rfl (lv_at hl 2 rfl) ?_
  refine lv_iconst (v := 0) hx hb dX5_readsCell_34 (by decide) ?_
  refine lv_aload_n hx hb dX5_readsCell_35 rfl (lv_at hl 2 rfl) ?_
  refine va_get (D := (dC, dI)) (ci := 0) (v := .ref (ad 1)) (C := RX5) (T := TX5) (N := 28) hx hb hts in_X5 hown hK hP 0 tw_g rfl 1 (by decide) (hts _ q1987) (fun _ h9 => h9) rfl dX5_readsCell_36 ?_
  refine lv_iconst (v := 0) hx hb dX5_readsCell_39 (by decide) ?_
  obtain ⟨g6, hF⟩ := gd_s hF
  refine va_iald hx hb hK hP 2 0 tw_e1 rfl (inB_in g6) dX5_readsCell_40 ?_
  refine lv_iconst (v := 1) hx hb dX5_readsCell_41 (by decide) ?_
  refine lv_isub hx hb dX5_readsCell_42 ?_
  obtain ⟨r7, u7, e7, hF⟩ := bnd_s hF
  refine tw_calli (va_runV (As := [.int 0, .int (((u5).2 1 (0 : Int32).toNatClampNeg) - 1)]) (rest := []) ⟨hx, hb, hml, hown, hts⟩ (mt_takes l dC dI cI cZ m0 ad H.size u5 n  0 (((u5).2 1 (0 : Int32).toNatClampNeg) - 1) _ e7) (cwV 2 hts (lw_V q2139 q2141 qs53 q125 q2142) rfl rfl rfl (by decide +kernel) ⟨Nat.le_of_ble_eq_true rfl, Nat.le_of_ble_eq_true rfl⟩) (tw_preV hK hP hD _) rfl rfl hl.1 rfl (lv_room (Nat.le_of_ble_eq_true rfl)) dX5_readsCell_43 ⟨Nat.le_of_ble_eq_true rfl, Nat.le_of_ble_eq_true rfl⟩) hS hD hAA (fun rr uu H locs hw hP hD hS => ?_)
  obtain rfl : r7 = rr := (congrArg Prod.fst hw).symm
  obtain rfl : u7 = uu := (congrArg Prod.snd hw).symm
  refine lv_istore_n (lv' := [(3, .int r7), (2, .int r5), (1, .int r3), (0, .ref m0)]) hx hb dX5_readsCell_46 rfl hl (by decide) rfl (fun ls hl => ?_)
  refine lv_aload_n hx hb dX5_readsCell_47 rfl (lv_at hl 3 rfl) ?_
  refine va_get (D := (dC, dI)) (ci := 0) (v := .int ((u7).1 14)) (C := RX5) (T := TX5) (N := 28) hx hb hts in_X5 hown hK hP 0 tw_g rfl 14 (by decide) (hts _ q2000) (fun _ h9 => h9) rfl dX5_readsCell_48 ?_
  refine lv_if_eq (tgt := 55) hx hb dX5_readsCell_51 (by decide) (fun c8 => ?_) (fun c8 => ?_)
  · replace hF := it_t c8 hF
    refine lv_aload_n hx hb dX5_readsCell_55 rfl (lv_at hl 3 rfl) ?_
    refine va_get (D := (dC, dI)) (ci := 0) (v := .ref (ad 1)) (C := RX5) (T := TX5) (N := 28) hx hb hts in_X5 hown hK hP 0 tw_g rfl 1 (by decide) (hts _ q1987) (fun _ h9 => h9) rfl dX5_readsCell_56 ?_
    refine lv_bipush (v := 9) hx hb dX5_readsCell_59 (by decide) ?_
    refine lv_bipush (v := 8) hx hb dX5_readsCell_61 (by decide) ?_
    refine lv_iload_n hx hb dX5_readsCell_63 rfl (lv_at hl 2 rfl) ?_
    refine lv_imul hx hb dX5_readsCell_64 ?_
    refine lv_iadd hx hb dX5_readsCell_65 ?_
    refine lv_iload_n hx hb dX5_readsCell_66 rfl (lv_at hl 1 rfl) ?_
    refine lv_iadd hx hb dX5_readsCell_67 ?_
    refine lv_iload_n hx hb dX5_readsCell_68 rfl (lv_at hl 0 rfl) ?_
    obtain ⟨g9, hF⟩ := gd_s hF
    refine va_iast hx hb hK hP hD hS 2 0 tw_e1 rfl (x := r7) (inB_in g9) dX5_readsCell_69 (fun H locs hP hD hS => ?_)
    rw [tw_s1] at hP hD
    refine lv_aload_n hx hb dX5_readsCell_70 rfl (lv_at hl 3 rfl) ?_
    refine va_get (D := (dC, dI)) (ci := 0) (v := .ref (ad 1)) (C := RX5) (T := TX5) (N := 28) hx hb hts in_X5 hown hK hP 0 tw_g rfl 1 (by decide) (hts _ q1987) (fun _ h9 => h9) rfl dX5_readsCell_71 ?_
    refine lv_bipush (v := 9) hx hb dX5_readsCell_74 (by decide) ?_
    refine lv_bipush (v := 8) hx hb dX5_readsCell_76 (by decide) ?_
    refine lv_iload_n hx hb dX5_readsCell_78 rfl (lv_at hl 1 rfl) ?_
    refine lv_imul hx hb dX5_readsCell_79 ?_
    refine lv_iadd hx hb dX5_readsCell_80 ?_
    refine lv_iload_n hx hb dX5_readsCell_81 rfl (lv_at hl 2 rfl) ?_
    refine lv_iadd hx hb dX5_readsCell_82 ?_
    refine lv_iload_n hx hb dX5_readsCell_83 rfl (lv_at hl 0 rfl) ?_
    obtain ⟨g10, hF⟩ := gd_s hF
    refine va_iast hx hb hK hP hD hS 2 0 tw_e1 rfl (x := r7) (inB_in g10) dX5_readsCell_84 (fun H locs hP hD hS => ?_)
    rw [tw_s1] at hP hD
    exact W.vret hx hb hr (fun t ht hW => ⟨⟨(tw_sa (tw_sa u7 1 (((9 + (8 * r3)) + r5)).toNatClampNeg r7) 1 (((9 + (8 * r5)) + r3)).toNatClampNeg r7), rfl, Option.some.inj hF, by rw [ht]; exact hP, va_K.moved hW.alike hK⟩, hS.F ht⟩) hS.2.2 dX5_readsCell_85
  · replace hF := it_f c8 hF
    exact W.vret hx hb hr (fun t ht hW => ⟨⟨u7, rfl, Option.some.inj hF, by rw [ht]; exact hP, va_K.moved hW.alike hK⟩, hS.F ht⟩) hS.2.2 dX5_readsCell_54

def F_readsStart_1 (R : Nat → Tw → Int32 → Int32 → Int32 → Option (Int32 × Tw)) (n : Nat) (σ : Tw) (x1 : Int32) (x2 : Int32) (x3 : Int32) : Option (Int32 × Tw) := if 8 ≤ x1 then if ((σ).1 14) = 0 then R 2 σ 1 0 0 else R 2 σ 0 0 0 else gd (inB (73 + x1) 162) (R 1 (tw_sa σ 1 ((73 + x1)).toNatClampNeg 0) (x1 + 1) 0 0)
def F_readsStart_2 (R : Nat → Tw → Int32 → Int32 → Int32 → Option (Int32 × Tw)) (n : Nat) (σ : Tw) (x1 : Int32) (x2 : Int32) (x3 : Int32) : Option (Int32 × Tw) := if x1 = 0 then some (0, σ) else gd (inB 1 162) (if x2 = ((σ).2 1 (1 : Int32).toNatClampNeg) then bnd (F_fails σ (-2)) (fun r13 u13 => gd (inB 0 162) (bnd (F_takes n u13 0 (((u13).2 1 (0 : Int32).toNatClampNeg) - 1)) (fun r15 u15 => if ((u15).1 14) = 0 then gd (inB (73 + x2) 162) (if (((tw_sa u15 1 ((73 + x2)).toNatClampNeg r15)).1 12) = 1 then R 2 (tw_sa u15 1 ((73 + x2)).toNatClampNeg r15) 1 (x2 + 1) r15 else R 2 (tw_sa u15 1 ((73 + x2)).toNatClampNeg r15) 0 (x2 + 1) r15) else some (0, u15)))) else gd (inB 0 162) (bnd (F_takes n σ 0 (((σ).2 1 (0 : Int32).toNatClampNeg) - 1)) (fun r9 u9 => if ((u9).1 14) = 0 then gd (inB (73 + x2) 162) (if (((tw_sa u9 1 ((73 + x2)).toNatClampNeg r9)).1 12) = 1 then R 2 (tw_sa u9 1 ((73 + x2)).toNatClampNeg r9) 1 (x2 + 1) r9 else R 2 (tw_sa u9 1 ((73 + x2)).toNatClampNeg r9) 0 (x2 + 1) r9) else some (0, u9))))
def F_readsStart_r : Nat → Nat → Tw → Int32 → Int32 → Int32 → Option (Int32 × Tw)
  | 0 => fun _ _ _ _ _ => none
  | n + 1 => fun k => match k with | 1 => F_readsStart_1 (F_readsStart_r n) n | _ => F_readsStart_2 (F_readsStart_r n) n
def F_readsStart_0 (R : Nat → Tw → Int32 → Int32 → Int32 → Option (Int32 × Tw)) (n : Nat) (σ : Tw) : Option (Int32 × Tw) := bnd (F_must n σ 1) (fun r1 u1 => R 1 u1 0 0 0)
def F_readsStart (n : Nat) (σ : Tw) : Option (Int32 × Tw) := F_readsStart_0 (F_readsStart_r n) n σ 
set_option maxHeartbeats 4000000 in
set_option maxRecDepth 100000 in
theorem mt_readsStart (l : Launch) (dC : Nat → ClassId) (dI : Nat → Nat → Nat) (cI cZ : ClassId) (m0 : Nat) (ad : Nat → Nat) (sz : Nat) (σ : Tw) (n : Nat)  (out : Int32 × Tw) (hF : F_readsStart n σ  = some out) : Met l yX5_readsStart (ws_ yX5_readsStart cX5_readsStart 4 none) ({ frames := 4, cells := 0, slots := 0, locals := 85 }) (va_Pc [.ref m0] (tw_Pre dC dI cI cZ m0 ad sz σ)) (va_Qv (fun u => (0, u) = out) (tw_B dC dI cI cZ m0 ad) (tw_A m0 ad sz)) 0 0 (tw_A m0 ad sz) := by
  refine Met.ofW (cc := cX5_readsStart) (maxL := 4) (ret := none) (by decide +kernel) rfl ?_
  intro p e s m args below meth c s₁ B hml hv
  obtain ⟨rfl, hsz, hP, hK, hD0⟩ := hv
  have hx := B.exec
  have hb := B.bytes
  have hr := B.returns
  have hts := atoms_spec (ws := (ws_ yX5_readsStart cX5_readsStart 4 none)) B.pre
  have hts : ∀ w ∈ lw_all, w.before _ s = true := fun w h => hts w (List.mem_cons_of_mem _ h)
  have hown : s.vm.findClass RX5 = some m.cls := findClass_of_methodNamed B.named
  have hlocks := B.notSynchronized
  subst hsz
  have hD := tw_Ds (z := s.heap.size) hD0
  have hAA := fun z (h : s.heap.size ≤ z) => tw_Am (m0 := m0) (ad := ad) h
  generalize hAe : tw_A m0 ad s.heap.size = A at hD hAA ⊢
  have hS : va_S A s.heap s.heap [] := va_S.rf
  have hP : va_P (dC, dI) vwCl (tw_ws m0 ad cI cZ σ) s.heap := hP
  have hl := lv_entry ([.ref m0]) (n := 4) (Nat.le_of_ble_eq_true rfl)
  rw [lg_entry_eq]
  generalize (lg_sl ([.ref m0]) ++ List.replicate (4 - (lg_sl ([.ref m0])).length) Slot.unset).toArray = ls at hl ⊢
  have hl : lv_has ls 4 [(0, .ref m0)] := hl
  have loop : ∀ n : Nat, (∀ (σ : Tw) (x1 x2 x3 : Int32), F_readsStart_r n 1 σ x1 x2 x3 = some out → ∀ (H : Heap) (locs : List Loc), va_P (dC, dI) vwCl (tw_ws m0 ad cI cZ σ) H → va_D A (tw_ws m0 ad cI cZ σ) → va_S A s.heap H locs → ∀ ls : Array Slot, lv_has ls 4 [(0, .ref m0), (1, .int x1)] → W p l e (headSpec (ws_ yX5_readsStart cX5_readsStart 4 none) ({ frames := 4, cells := 0, slots := 0, locals := 85 })).room s m ([.ref m0] : List Value).toArray below meth c H locs 0 0 (MQ below (va_Qv (fun u => (0, u) = out) (tw_B dC dI cI cZ m0 ad) A) ([.ref m0] : List Value).toArray s 0 0 A) (F0 m 7 ls [])) ∧ (∀ (σ : Tw) (x1 x2 x3 : Int32), F_readsStart_r n 2 σ x1 x2 x3 = some out → ∀ (H : Heap) (locs : List Loc), va_P (dC, dI) vwCl (tw_ws m0 ad cI cZ σ) H → va_D A (tw_ws m0 ad cI cZ σ) → va_S A s.heap H locs → ∀ ls : Array Slot, lv_has ls 4 [(0, .ref m0), (1, .int x1), (2, .int x2)] → W p l e (headSpec (ws_ yX5_readsStart cX5_readsStart 4 none) ({ frames := 4, cells := 0, slots := 0, locals := 85 })).room s m ([.ref m0] : List Value).toArray below meth c H locs 0 0 (MQ below (va_Qv (fun u => (0, u) = out) (tw_B dC dI cI cZ m0 ad) A) ([.ref m0] : List Value).toArray s 0 0 A) (F0 m 44 ls [])) := by
    intro n
    induction n with
    | zero => exact ⟨(fun _ _ _ _ h => nomatch h), (fun _ _ _ _ h => nomatch h)⟩
    | succ n ih =>
      obtain ⟨lp1, lp2⟩ := ih
      refine ⟨?_, ?_⟩
      · intro σ x1 x2 x3 hF H locs hP hD hS ls hl
        replace hF : F_readsStart_1 (F_readsStart_r n) n σ x1 x2 x3 = some out := hF
        unfold F_readsStart_1 at hF
        refine lv_iload_n hx hb dX5_readsStart_7 rfl (lv_at hl 1 rfl) ?_
        refine lv_bipush (v := 8) hx hb dX5_readsStart_8 (by decide) ?_
        refine lv_icmp_ge (tgt := 29) hx hb dX5_readsStart_10 (by decide) (fun c2 => ?_) (fun c2 => ?_)
        · replace hF := it_t c2 hF
          refine lv_aload_n hx hb dX5_readsStart_29 rfl (lv_at hl 0 rfl) ?_
          refine va_get (D := (dC, dI)) (ci := 0) (v := .int ((σ).1 14)) (C := RX5) (T := TX5) (N := 28) hx hb hts in_X5 hown hK hP 0 tw_g rfl 14 (by decide) (hts _ q2000) (fun _ h9 => h9) rfl dX5_readsStart_30 ?_
          refine lv_if_ne (tgt := 40) hx hb dX5_readsStart_33 (by decide) (fun c3 => ?_) (fun c3 => ?_)
          · replace hF := it_f c3 hF
            refine lv_iconst (v := 0) hx hb dX5_readsStart_40 (by decide) ?_
            refine lv_istore_n (lv' := [(1, .int 0), (0, .ref m0)]) hx hb dX5_readsStart_41 rfl hl (by decide) rfl (fun ls hl => ?_)
            refine lv_iconst (v := 0) hx hb dX5_readsStart_42 (by decide) ?_
            refine lv_istore_n (lv' := [(2, .int 0), (1, .int 0), (0, .ref m0)]) hx hb dX5_readsStart_43 rfl hl (by decide) rfl (fun ls hl => ?_)
            exact lp2 σ 0 0 0 hF _ _ hP hD hS ls (lv_sub hl [2, 1, 0] rfl)
          · replace hF := it_t c3 hF
            refine lv_iconst (v := 1) hx hb dX5_readsStart_36 (by decide) ?_
            refine lv_goto (tgt := 41) hx hb dX5_readsStart_37 (by decide) ?_
            refine lv_istore_n (lv' := [(1, .int 1), (0, .ref m0)]) hx hb dX5_readsStart_41 rfl hl (by decide) rfl (fun ls hl => ?_)
            refine lv_iconst (v := 0) hx hb dX5_readsStart_42 (by decide) ?_
            refine lv_istore_n (lv' := [(2, .int 0), (1, .int 1), (0, .ref m0)]) hx hb dX5_readsStart_43 rfl hl (by decide) rfl (fun ls hl => ?_)
            exact lp2 σ 1 0 0 hF _ _ hP hD hS ls (lv_sub hl [2, 1, 0] rfl)
        · replace hF := it_f c2 hF
          refine lv_aload_n hx hb dX5_readsStart_13 rfl (lv_at hl 0 rfl) ?_
          refine va_get (D := (dC, dI)) (ci := 0) (v := .ref (ad 1)) (C := RX5) (T := TX5) (N := 28) hx hb hts in_X5 hown hK hP 0 tw_g rfl 1 (by decide) (hts _ q1987) (fun _ h9 => h9) rfl dX5_readsStart_14 ?_
          refine lv_bipush (v := 73) hx hb dX5_readsStart_17 (by decide) ?_
          refine lv_iload_n hx hb dX5_readsStart_19 rfl (lv_at hl 1 rfl) ?_
          refine lv_iadd hx hb dX5_readsStart_20 ?_
          refine lv_iconst (v := 0) hx hb dX5_readsStart_21 (by decide) ?_
          obtain ⟨g4, hF⟩ := gd_s hF
          refine va_iast hx hb hK hP hD hS 2 0 tw_e1 rfl (x := 0) (inB_in g4) dX5_readsStart_22 (fun H locs hP hD hS => ?_)
          rw [tw_s1] at hP hD
          refine lv_iinc (v := (x1 + 1)) (lv' := [(1, .int (x1 + 1)), (0, .ref m0)]) hx hb dX5_readsStart_23 hl (k := 1) rfl rfl (by decide) rfl (fun ls hl => ?_)
          refine lv_goto (tgt := 7) hx hb dX5_readsStart_26 (by decide) ?_
          exact lp1 (tw_sa σ 1 ((73 + x1)).toNatClampNeg 0) (x1 + 1) 0 0 hF _ _ hP hD hS ls (lv_sub hl [1, 0] rfl)
      · intro σ x1 x2 x3 hF H locs hP hD hS ls hl
        replace hF : F_readsStart_2 (F_readsStart_r n) n σ x1 x2 x3 = some out := hF
        unfold F_readsStart_2 at hF
        refine lv_iload_n hx hb dX5_readsStart_44 rfl (lv_at hl 1 rfl) ?_
        refine lv_if_eq (tgt := 116) hx hb dX5_readsStart_45 (by decide) (fun c5 => ?_) (fun c5 => ?_)
        · replace hF := it_t c5 hF
          exact W.vret hx hb hr (fun t ht hW => ⟨⟨σ, rfl, Option.some.inj hF, by rw [ht]; exact hP, va_K.moved hW.alike hK⟩, hS.F ht⟩) hS.2.2 dX5_readsStart_116
        · replace hF := it_f c5 hF
          refine lv_iload_n hx hb dX5_readsStart_48 rfl (lv_at hl 2 rfl) ?_
          refine lv_aload_n hx hb dX5_readsStart_49 rfl (lv_at hl 0 rfl) ?_
          refine va_get (D := (dC, dI)) (ci := 0) (v := .ref (ad 1)) (C := RX5) (T := TX5) (N := 28) hx hb hts in_X5 hown hK hP 0 tw_g rfl 1 (by decide) (hts _ q1987) (fun _ h9 => h9) rfl dX5_readsStart_50 ?_
          refine lv_iconst (v := 1) hx hb dX5_readsStart_53 (by decide) ?_
          obtain ⟨g6, hF⟩ := gd_s hF
          refine va_iald hx hb hK hP 2 0 tw_e1 rfl (inB_in g6) dX5_readsStart_54 ?_
          refine lv_icmp_ne (tgt := 64) hx hb dX5_readsStart_55 (by decide) (fun c7 => ?_) (fun c7 => ?_)
          · replace hF := it_f c7 hF
            refine lv_aload_n hx hb dX5_readsStart_64 rfl (lv_at hl 0 rfl) ?_
            refine lv_iconst (v := 0) hx hb dX5_readsStart_65 (by decide) ?_
            refine lv_aload_n hx hb dX5_readsStart_66 rfl (lv_at hl 0 rfl) ?_
            refine va_get (D := (dC, dI)) (ci := 0) (v := .ref (ad 1)) (C := RX5) (T := TX5) (N := 28) hx hb hts in_X5 hown hK hP 0 tw_g rfl 1 (by decide) (hts _ q1987) (fun _ h9 => h9) rfl dX5_readsStart_67 ?_
            refine lv_iconst (v := 0) hx hb dX5_readsStart_70 (by decide) ?_
            obtain ⟨g8, hF⟩ := gd_s hF
            refine va_iald hx hb hK hP 2 0 tw_e1 rfl (inB_in g8) dX5_readsStart_71 ?_
            refine lv_iconst (v := 1) hx hb dX5_readsStart_72 (by decide) ?_
            refine lv_isub hx hb dX5_readsStart_73 ?_
            obtain ⟨r9, u9, e9, hF⟩ := bnd_s hF
            refine tw_calli (va_runV (As := [.int 0, .int (((σ).2 1 (0 : Int32).toNatClampNeg) - 1)]) (rest := []) ⟨hx, hb, hml, hown, hts⟩ (mt_takes l dC dI cI cZ m0 ad H.size σ n  0 (((σ).2 1 (0 : Int32).toNatClampNeg) - 1) _ e9) (cwV 2 hts (lw_V q2139 q2141 qs53 q125 q2142) rfl rfl rfl (by decide +kernel) ⟨Nat.le_of_ble_eq_true rfl, Nat.le_of_ble_eq_true rfl⟩) (tw_preV hK hP hD _) rfl rfl hl.1 rfl (lv_room (Nat.le_of_ble_eq_true rfl)) dX5_readsStart_74 ⟨Nat.le_of_ble_eq_true rfl, Nat.le_of_ble_eq_true rfl⟩) hS hD hAA (fun rr uu H locs hw hP hD hS => ?_)
            obtain rfl : r9 = rr := (congrArg Prod.fst hw).symm
            obtain rfl : u9 = uu := (congrArg Prod.snd hw).symm
            refine lv_istore_n (lv' := [(3, .int r9), (0, .ref m0), (1, .int x1), (2, .int x2)]) hx hb dX5_readsStart_77 rfl hl (by decide) rfl (fun ls hl => ?_)
            refine lv_aload_n hx hb dX5_readsStart_78 rfl (lv_at hl 1 rfl) ?_
            refine va_get (D := (dC, dI)) (ci := 0) (v := .int ((u9).1 14)) (C := RX5) (T := TX5) (N := 28) hx hb hts in_X5 hown hK hP 0 tw_g rfl 14 (by decide) (hts _ q2000) (fun _ h9 => h9) rfl dX5_readsStart_79 ?_
            refine lv_if_eq (tgt := 86) hx hb dX5_readsStart_82 (by decide) (fun c10 => ?_) (fun c10 => ?_)
            · replace hF := it_t c10 hF
              refine lv_aload_n hx hb dX5_readsStart_86 rfl (lv_at hl 1 rfl) ?_
              refine va_get (D := (dC, dI)) (ci := 0) (v := .ref (ad 1)) (C := RX5) (T := TX5) (N := 28) hx hb hts in_X5 hown hK hP 0 tw_g rfl 1 (by decide) (hts _ q1987) (fun _ h9 => h9) rfl dX5_readsStart_87 ?_
              refine lv_bipush (v := 73) hx hb dX5_readsStart_90 (by decide) ?_
              refine lv_iload_n hx hb dX5_readsStart_92 rfl (lv_at hl 3 rfl) ?_
              refine lv_iadd hx hb dX5_readsStart_93 ?_
              refine lv_iload_n hx hb dX5_readsStart_94 rfl (lv_at hl 0 rfl) ?_
              obtain ⟨g11, hF⟩ := gd_s hF
              refine va_iast hx hb hK hP hD hS 2 0 tw_e1 rfl (x := r9) (inB_in g11) dX5_readsStart_95 (fun H locs hP hD hS => ?_)
              rw [tw_s1] at hP hD
              refine lv_aload_n hx hb dX5_readsStart_96 rfl (lv_at hl 1 rfl) ?_
              refine va_get (D := (dC, dI)) (ci := 0) (v := .int (((tw_sa u9 1 ((73 + x2)).toNatClampNeg r9)).1 12)) (C := RX5) (T := TX5) (N := 28) hx hb hts in_X5 hown hK hP 0 tw_g rfl 12 (by decide) (hts _ q1998) (fun _ h9 => h9) rfl dX5_readsStart_97 ?_
              refine lv_iconst (v := 1) hx hb dX5_readsStart_100 (by decide) ?_
              refine lv_icmp_ne (tgt := 108) hx hb dX5_readsStart_101 (by decide) (fun c12 => ?_) (fun c12 => ?_)
              · replace hF := it_f c12 hF
                refine lv_iconst (v := 0) hx hb dX5_readsStart_108 (by decide) ?_
                refine lv_istore_n (lv' := [(1, .int 0), (3, .int r9), (0, .ref m0), (2, .int x2)]) hx hb dX5_readsStart_109 rfl hl (by decide) rfl (fun ls hl => ?_)
                refine lv_iinc (v := (x2 + 1)) (lv' := [(2, .int (x2 + 1)), (1, .int 0), (3, .int r9), (0, .ref m0)]) hx hb dX5_readsStart_110 hl (k := 3) rfl rfl (by decide) rfl (fun ls hl => ?_)
                refine lv_goto (tgt := 44) hx hb dX5_readsStart_113 (by decide) ?_
                exact lp2 (tw_sa u9 1 ((73 + x2)).toNatClampNeg r9) 0 (x2 + 1) r9 hF _ _ hP hD hS ls (lv_sub hl [3, 1, 0] rfl)
              · replace hF := it_t c12 hF
                refine lv_iconst (v := 1) hx hb dX5_readsStart_104 (by decide) ?_
                refine lv_goto (tgt := 109) hx hb dX5_readsStart_105 (by decide) ?_
                refine lv_istore_n (lv' := [(1, .int 1), (3, .int r9), (0, .ref m0), (2, .int x2)]) hx hb dX5_readsStart_109 rfl hl (by decide) rfl (fun ls hl => ?_)
                refine lv_iinc (v := (x2 + 1)) (lv' := [(2, .int (x2 + 1)), (1, .int 1), (3, .int r9), (0, .ref m0)]) hx hb dX5_readsStart_110 hl (k := 3) rfl rfl (by decide) rfl (fun ls hl => ?_)
                refine lv_goto (tgt := 44) hx hb dX5_readsStart_113 (by decide) ?_
                exact lp2 (tw_sa u9 1 ((73 + x2)).toNatClampNeg r9) 1 (x2 + 1) r9 hF _ _ hP hD hS ls (lv_sub hl [3, 1, 0] rfl)
            · replace hF := it_f c10 hF
              exact W.vret hx hb hr (fun t ht hW => ⟨⟨u9, rfl, Option.some.inj hF, by rw [ht]; exact hP, va_K.moved hW.alike hK⟩, hS.F ht⟩) hS.2.2 dX5_readsStart_85
          · replace hF := it_t c7 hF
            refine lv_aload_n hx hb dX5_readsStart_58 rfl (lv_at hl 0 rfl) ?_
            refine lv_bipush (v := (-2)) hx hb dX5_readsStart_59 (by decide) ?_
            obtain ⟨r13, u13, e13, hF⟩ := bnd_s hF
            refine tw_callv (va_runV (As := [.int (-2)]) (rest := []) ⟨hx, hb, hml, hown, hts⟩ (mt_fails l dC dI cI cZ m0 ad H.size σ  (-2) _ e13) (cwV 1 hts (lw_V q2132 q2134 qs52 q125 q2135) rfl rfl rfl (by decide +kernel) ⟨Nat.le_of_ble_eq_true rfl, Nat.le_of_ble_eq_true rfl⟩) (tw_preV hK hP hD _) rfl rfl hl.1 rfl (lv_room (Nat.le_of_ble_eq_true rfl)) dX5_readsStart_61 ⟨Nat.le_of_ble_eq_true rfl, Nat.le_of_ble_eq_true rfl⟩) hS hD hAA (fun uu H locs hw hP hD hS => ?_)
            obtain rfl : u13 = uu := (congrArg Prod.snd hw).symm
            refine lv_aload_n hx hb dX5_readsStart_64 rfl (lv_at hl 0 rfl) ?_
            refine lv_iconst (v := 0) hx hb dX5_readsStart_65 (by decide) ?_
            refine lv_aload_n hx hb dX5_readsStart_66 rfl (lv_at hl 0 rfl) ?_
            refine va_get (D := (dC, dI)) (ci := 0) (v := .ref (ad 1)) (C := RX5) (T := TX5) (N := 28) hx hb hts in_X5 hown hK hP 0 tw_g rfl 1 (by decide) (hts _ q1987) (fun _ h9 => h9) rfl dX5_readsStart_67 ?_
            refine lv_iconst (v := 0) hx hb dX5_readsStart_70 (by decide) ?_
            obtain ⟨g14, hF⟩ := gd_s hF
            refine va_iald hx hb hK hP 2 0 tw_e1 rfl (inB_in g14) dX5_readsStart_71 ?_
            refine lv_iconst (v := 1) hx hb dX5_readsStart_72 (by decide) ?_
            refine lv_isub hx hb dX5_readsStart_73 ?_
            obtain ⟨r15, u15, e15, hF⟩ := bnd_s hF
            refine tw_calli (va_runV (As := [.int 0, .int (((u13).2 1 (0 : Int32).toNatClampNeg) - 1)]) (rest := []) ⟨hx, hb, hml, hown, hts⟩ (mt_takes l dC dI cI cZ m0 ad H.size u13 n  0 (((u13).2 1 (0 : Int32).toNatClampNeg) - 1) _ e15) (cwV 2 hts (lw_V q2139 q2141 qs53 q125 q2142) rfl rfl rfl (by decide +kernel) ⟨Nat.le_of_ble_eq_true rfl, Nat.le_of_ble_eq_true rfl⟩) (tw_preV hK hP hD _) rfl rfl hl.1 rfl (lv_room (Nat.le_of_ble_eq_true rfl)) dX5_readsStart_74 ⟨Nat.le_of_ble_eq_true rfl, Nat.le_of_ble_eq_true rfl⟩) hS hD hAA (fun rr uu H locs hw hP hD hS => ?_)
            obtain rfl : r15 = rr := (congrArg Prod.fst hw).symm
            obtain rfl : u15 = uu := (congrArg Prod.snd hw).symm
            refine lv_istore_n (lv' := [(3, .int r15), (0, .ref m0), (1, .int x1), (2, .int x2)]) hx hb dX5_readsStart_77 rfl hl (by decide) rfl (fun ls hl => ?_)
            refine lv_aload_n hx hb dX5_readsStart_78 rfl (lv_at hl 1 rfl) ?_
            refine va_get (D := (dC, dI)) (ci := 0) (v := .int ((u15).1 14)) (C := RX5) (T := TX5) (N := 28) hx hb hts in_X5 hown hK hP 0 tw_g rfl 14 (by decide) (hts _ q2000) (fun _ h9 => h9) rfl dX5_readsStart_79 ?_
            refine lv_if_eq (tgt := 86) hx hb dX5_readsStart_82 (by decide) (fun c16 => ?_) (fun c16 => ?_)
            · replace hF := it_t c16 hF
              refine lv_aload_n hx hb dX5_readsStart_86 rfl (lv_at hl 1 rfl) ?_
              refine va_get (D := (dC, dI)) (ci := 0) (v := .ref (ad 1)) (C := RX5) (T := TX5) (N := 28) hx hb hts in_X5 hown hK hP 0 tw_g rfl 1 (by decide) (hts _ q1987) (fun _ h9 => h9) rfl dX5_readsStart_87 ?_
              refine lv_bipush (v := 73) hx hb dX5_readsStart_90 (by decide) ?_
              refine lv_iload_n hx hb dX5_readsStart_92 rfl (lv_at hl 3 rfl) ?_
              refine lv_iadd hx hb dX5_readsStart_93 ?_
              refine lv_iload_n hx hb dX5_readsStart_94 rfl (lv_at hl 0 rfl) ?_
              obtain ⟨g17, hF⟩ := gd_s hF
              refine va_iast hx hb hK hP hD hS 2 0 tw_e1 rfl (x := r15) (inB_in g17) dX5_readsStart_95 (fun H locs hP hD hS => ?_)
              rw [tw_s1] at hP hD
              refine lv_aload_n hx hb dX5_readsStart_96 rfl (lv_at hl 1 rfl) ?_
              refine va_get (D := (dC, dI)) (ci := 0) (v := .int (((tw_sa u15 1 ((73 + x2)).toNatClampNeg r15)).1 12)) (C := RX5) (T := TX5) (N := 28) hx hb hts in_X5 hown hK hP 0 tw_g rfl 12 (by decide) (hts _ q1998) (fun _ h9 => h9) rfl dX5_readsStart_97 ?_
              refine lv_iconst (v := 1) hx hb dX5_readsStart_100 (by decide) ?_
              refine lv_icmp_ne (tgt := 108) hx hb dX5_readsStart_101 (by decide) (fun c18 => ?_) (fun c18 => ?_)
              · replace hF := it_f c18 hF
                refine lv_iconst (v := 0) hx hb dX5_readsStart_108 (by decide) ?_
                refine lv_istore_n (lv' := [(1, .int 0), (3, .int r15), (0, .ref m0), (2, .int x2)]) hx hb dX5_readsStart_109 rfl hl (by decide) rfl (fun ls hl => ?_)
                refine lv_iinc (v := (x2 + 1)) (lv' := [(2, .int (x2 + 1)), (1, .int 0), (3, .int r15), (0, .ref m0)]) hx hb dX5_readsStart_110 hl (k := 3) rfl rfl (by decide) rfl (fun ls hl => ?_)
                refine lv_goto (tgt := 44) hx hb dX5_readsStart_113 (by decide) ?_
                exact lp2 (tw_sa u15 1 ((73 + x2)).toNatClampNeg r15) 0 (x2 + 1) r15 hF _ _ hP hD hS ls (lv_sub hl [3, 1, 0] rfl)
              · replace hF := it_t c18 hF
                refine lv_iconst (v := 1) hx hb dX5_readsStart_104 (by decide) ?_
                refine lv_goto (tgt := 109) hx hb dX5_readsStart_105 (by decide) ?_
                refine lv_istore_n (lv' := [(1, .int 1), (3, .int r15), (0, .ref m0), (2, .int x2)]) hx hb dX5_readsStart_109 rfl hl (by decide) rfl (fun ls hl => ?_)
                refine lv_iinc (v := (x2 + 1)) (lv' := [(2, .int (x2 + 1)), (1, .int 1), (3, .int r15), (0, .ref m0)]) hx hb dX5_readsStart_110 hl (k := 3) rfl rfl (by decide) rfl (fun ls hl => ?_)
                refine lv_goto (tgt := 44) hx hb dX5_readsStart_113 (by decide) ?_
                exact lp2 (tw_sa u15 1 ((73 + x2)).toNatClampNeg r15) 1 (x2 + 1) r15 hF _ _ hP hD hS ls (lv_sub hl [3, 1, 0] rfl)
            · replace hF := it_f c16 hF
              exact W.vret hx hb hr (fun t ht hW => ⟨⟨u15, rfl, Option.some.inj hF, by rw [ht]; exact hP, va_K.moved hW.alike hK⟩, hS.F ht⟩) hS.2.2 dX5_readsStart_85
  obtain ⟨lp1, lp2⟩ := loop n
  unfold F_readsStart F_readsStart_0 at hF
  refine lv_aload_n hx hb dX5_readsStart_0 rfl (lv_at hl 0 rfl) ?_
  refine lv_iconst (v := 1) hx hb dX5_readsStart_1 (by decide) ?_
  obtain ⟨r1, u1, e1, hF⟩ := bnd_s hF
  refine tw_callv (va_runV (As := [.int 1]) (rest := []) ⟨hx, hb, hml, hown, hts⟩ (mt_must l dC dI cI cZ m0 ad s.heap.size σ n  1 _ e1) (cwV 1 hts (lw_V q2128 q2130 qs51 q125 q2131) rfl rfl rfl (by decide +kernel) ⟨Nat.le_of_ble_eq_true rfl, Nat.le_of_ble_eq_true rfl⟩) (tw_preV hK hP hD _) rfl rfl hl.1 rfl (lv_room (Nat.le_of_ble_eq_true rfl)) dX5_readsStart_2 ⟨Nat.le_of_ble_eq_true rfl, Nat.le_of_ble_eq_true rfl⟩) hS hD hAA (fun uu H locs hw hP hD hS => ?_)
  obtain rfl : u1 = uu := (congrArg Prod.snd hw).symm
  refine lv_iconst (v := 0) hx hb dX5_readsStart_5 (by decide) ?_
  refine lv_istore_n (lv' := [(1, .int 0), (0, .ref m0)]) hx hb dX5_readsStart_6 rfl hl (by decide) rfl (fun ls hl => ?_)
  exact lp1 u1 0 0 0 hF _ _ hP hD hS ls (lv_sub hl [1, 0] rfl)
