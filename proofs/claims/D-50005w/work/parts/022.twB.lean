/-! the reference's methods, walked by program (tool/cw.py): F_ the pure function, mt_ the contract -/
def F_errorPosition (σ : Tw) : Option (Int32 × Tw) := some ((((tw_sf σ 6 0)).1 16), (tw_sf σ 6 0))
set_option maxHeartbeats 4000000 in
set_option maxRecDepth 100000 in
theorem mt_errorPosition (l : Launch) (dC : Nat → ClassId) (dI : Nat → Nat → Nat) (cI cZ : ClassId) (m0 : Nat) (ad : Nat → Nat) (sz : Nat) (σ : Tw)  (out : Int32 × Tw) (hF : F_errorPosition σ  = some out) : Met l yX5_errorPosition (ws_ yX5_errorPosition cX5_errorPosition 1 (some .int)) ({ frames := 0, cells := 0, slots := 0, locals := 0 }) (va_Pc [.ref m0] (tw_Pre dC dI cI cZ m0 ad sz σ)) (va_Qi (fun r u => (r, u) = out) (tw_B dC dI cI cZ m0 ad) (tw_A m0 ad sz)) 0 0 (tw_A m0 ad sz) := by
  refine Met.ofW (cc := cX5_errorPosition) (maxL := 1) (ret := (some .int)) (by decide +kernel) rfl ?_
  intro p e s m args below meth c s₁ B hml hv
  obtain ⟨rfl, hsz, hP, hK, hD0⟩ := hv
  have hx := B.exec
  have hb := B.bytes
  have hr := B.returns
  have hts := atoms_spec (ws := (ws_ yX5_errorPosition cX5_errorPosition 1 (some .int))) B.pre
  have hts : ∀ w ∈ lw_all, w.before _ s = true := fun w h => hts w (List.mem_cons_of_mem _ h)
  have hown : s.vm.findClass RX5 = some m.cls := findClass_of_methodNamed B.named
  have hlocks := B.notSynchronized
  subst hsz
  have hD := tw_Ds (z := s.heap.size) hD0
  have hAA := fun z (h : s.heap.size ≤ z) => tw_Am (m0 := m0) (ad := ad) h
  generalize hAe : tw_A m0 ad s.heap.size = A at hD hAA ⊢
  have hS : va_S A s.heap s.heap [] := va_S.rf
  have hP : va_P (dC, dI) vwCl (tw_ws m0 ad cI cZ σ) s.heap := hP
  have hl := lv_entry ([.ref m0]) (n := 1) (Nat.le_of_ble_eq_true rfl)
  rw [lg_entry_eq]
  generalize (lg_sl ([.ref m0]) ++ List.replicate (1 - (lg_sl ([.ref m0])).length) Slot.unset).toArray = ls at hl ⊢
  have hl : lv_has ls 1 [(0, .ref m0)] := hl
  unfold F_errorPosition at hF
  refine lv_aload_n hx hb dX5_errorPosition_0 rfl (lv_at hl 0 rfl) ?_
  refine lv_iconst (v := 0) hx hb dX5_errorPosition_1 (by decide) ?_
  refine va_put (D := (dC, dI)) (ci := 0) (v := .int 0) (ty := .int) (C := RX5) (T := TX5) (N := 28) hx hb hts in_X5 tyX5 tyX5_ok nmX5 hown hK hP hD hS 0 tw_g rfl 6 (by decide) (hts _ q1992) (fun _ h9 => h9) rfl (tyX5_ok 6 (by decide)) rfl rfl (Nat.le_of_ble_eq_true rfl) dX5_errorPosition_2 (fun H locs hP hD hS => ?_)
  rw [tw_p6] at hP hD
  refine lv_aload_n hx hb dX5_errorPosition_5 rfl (lv_at hl 0 rfl) ?_
  refine va_get (D := (dC, dI)) (ci := 0) (v := .int (((tw_sf σ 6 0)).1 16)) (C := RX5) (T := TX5) (N := 28) hx hb hts in_X5 hown hK hP 0 tw_g rfl 16 (by decide) (hts _ q2002) (fun _ h9 => h9) rfl dX5_errorPosition_6 ?_
  exact W.iret (v := (((tw_sf σ 6 0)).1 16)) hx hb hr (fun t ht hW => ⟨⟨(((tw_sf σ 6 0)).1 16), (tw_sf σ 6 0), rfl, Option.some.inj hF, by rw [ht]; exact hP, va_K.moved hW.alike hK⟩, hS.F ht⟩) hS.2.2 dX5_errorPosition_9

def F_mod (σ : Tw) (p1 : Int32) : Option (Int32 × Tw) := gd (inB 0 162) (bnd (F_floorMod σ p1 ((σ).2 0 (0 : Int32).toNatClampNeg)) (fun r2 u2 => some (r2, u2)))
set_option maxHeartbeats 4000000 in
set_option maxRecDepth 100000 in
theorem mt_mod (l : Launch) (dC : Nat → ClassId) (dI : Nat → Nat → Nat) (cI cZ : ClassId) (m0 : Nat) (ad : Nat → Nat) (sz : Nat) (σ : Tw)  (p1 : Int32) (out : Int32 × Tw) (hF : F_mod σ p1 = some out) : Met l yX5_mod (ws_ yX5_mod cX5_mod 2 (some .int)) ({ frames := 1, cells := 0, slots := 0, locals := 22 }) (va_Pc [.ref m0, .int p1] (tw_Pre dC dI cI cZ m0 ad sz σ)) (va_Qi (fun r u => (r, u) = out) (tw_B dC dI cI cZ m0 ad) (tw_A m0 ad sz)) 0 0 (tw_A m0 ad sz) := by
  refine Met.ofW (cc := cX5_mod) (maxL := 2) (ret := (some .int)) (by decide +kernel) rfl ?_
  intro p e s m args below meth c s₁ B hml hv
  obtain ⟨rfl, hsz, hP, hK, hD0⟩ := hv
  have hx := B.exec
  have hb := B.bytes
  have hr := B.returns
  have hts := atoms_spec (ws := (ws_ yX5_mod cX5_mod 2 (some .int))) B.pre
  have hts : ∀ w ∈ lw_all, w.before _ s = true := fun w h => hts w (List.mem_cons_of_mem _ h)
  have hown : s.vm.findClass RX5 = some m.cls := findClass_of_methodNamed B.named
  have hlocks := B.notSynchronized
  subst hsz
  have hD := tw_Ds (z := s.heap.size) hD0
  have hAA := fun z (h : s.heap.size ≤ z) => tw_Am (m0 := m0) (ad := ad) h
  generalize hAe : tw_A m0 ad s.heap.size = A at hD hAA ⊢
  have hS : va_S A s.heap s.heap [] := va_S.rf
  have hP : va_P (dC, dI) vwCl (tw_ws m0 ad cI cZ σ) s.heap := hP
  have hl := lv_entry ([.ref m0, .int p1]) (n := 2) (Nat.le_of_ble_eq_true rfl)
  rw [lg_entry_eq]
  generalize (lg_sl ([.ref m0, .int p1]) ++ List.replicate (2 - (lg_sl ([.ref m0, .int p1])).length) Slot.unset).toArray = ls at hl ⊢
  have hl : lv_has ls 2 [(0, .ref m0), (1, .int p1)] := hl
  unfold F_mod at hF
  refine lv_iload_n hx hb dX5_mod_0 rfl (lv_at hl 1 rfl) ?_
  refine lv_aload_n hx hb dX5_mod_1 rfl (lv_at hl 0 rfl) ?_
  refine va_get (D := (dC, dI)) (ci := 0) (v := .ref (ad 0)) (C := RX5) (T := TX5) (N := 28) hx hb hts in_X5 hown hK hP 0 tw_g rfl 0 (by decide) (hts _ q1986) (fun _ h9 => h9) rfl dX5_mod_2 ?_
  refine lv_iconst (v := 0) hx hb dX5_mod_5 (by decide) ?_
  obtain ⟨g1, hF⟩ := gd_s hF
  refine va_iald hx hb hK hP 1 0 tw_e0 rfl (inB_in g1) dX5_mod_6 ?_
  obtain ⟨r2, u2, e2, hF⟩ := bnd_s hF
  refine tw_calli (va_runS (As := [.int p1, .int ((σ).2 0 (0 : Int32).toNatClampNeg)]) (rest := []) ⟨hx, hb, hml, hown, hts⟩ (mt_floorMod l dC dI cI cZ m0 ad s.heap.size σ  p1 ((σ).2 0 (0 : Int32).toNatClampNeg) _ e2) (va_cwS 2 hts (lw_S q2257 q2258 q116 q2259) rfl rfl rfl (by decide +kernel) ⟨Nat.le_of_ble_eq_true rfl, Nat.le_of_ble_eq_true rfl⟩) (tw_preS hK hP hD _) rfl rfl hl.1 rfl (lv_room (Nat.le_of_ble_eq_true rfl)) dX5_mod_7 ⟨Nat.le_of_ble_eq_true rfl, Nat.le_of_ble_eq_true rfl⟩) hS hD hAA (fun rr uu H locs hw hP hD hS => ?_)
  obtain rfl : r2 = rr := (congrArg Prod.fst hw).symm
  obtain rfl : u2 = uu := (congrArg Prod.snd hw).symm
  exact W.iret (v := r2) hx hb hr (fun t ht hW => ⟨⟨r2, u2, rfl, Option.some.inj hF, by rw [ht]; exact hP, va_K.moved hW.alike hK⟩, hS.F ht⟩) hS.2.2 dX5_mod_10

def F_inverse_1 (R : Nat → Tw → Int32 → Int32 → Option (Int32 × Tw)) (n : Nat) (σ : Tw) (x1 : Int32) (x2 : Int32) : Option (Int32 × Tw) := gd (inB 0 162) (gd (nzB ((σ).2 0 (0 : Int32).toNatClampNeg)) (if ((x2 * x1) - (x2 * x1) / ((σ).2 0 (0 : Int32).toNatClampNeg) * ((σ).2 0 (0 : Int32).toNatClampNeg)) = 1 then some (x2, σ) else R 1 σ x1 (x2 + 1)))
def F_inverse_r : Nat → Nat → Tw → Int32 → Int32 → Option (Int32 × Tw)
  | 0 => fun _ _ _ _ => none
  | n + 1 => fun k => match k with  | _ => F_inverse_1 (F_inverse_r n) n
def F_inverse_0 (R : Nat → Tw → Int32 → Int32 → Option (Int32 × Tw)) (n : Nat) (σ : Tw) (p1 : Int32) : Option (Int32 × Tw) := R 1 σ p1 1
def F_inverse (n : Nat) (σ : Tw) (p1 : Int32) : Option (Int32 × Tw) := F_inverse_0 (F_inverse_r n) n σ p1
set_option maxHeartbeats 4000000 in
set_option maxRecDepth 100000 in
theorem mt_inverse (l : Launch) (dC : Nat → ClassId) (dI : Nat → Nat → Nat) (cI cZ : ClassId) (m0 : Nat) (ad : Nat → Nat) (sz : Nat) (σ : Tw) (n : Nat)  (p1 : Int32) (out : Int32 × Tw) (hF : F_inverse n σ p1 = some out) : Met l yX5_inverse (ws_ yX5_inverse cX5_inverse 3 (some .int)) ({ frames := 0, cells := 0, slots := 0, locals := 0 }) (va_Pc [.ref m0, .int p1] (tw_Pre dC dI cI cZ m0 ad sz σ)) (va_Qi (fun r u => (r, u) = out) (tw_B dC dI cI cZ m0 ad) (tw_A m0 ad sz)) 0 0 (tw_A m0 ad sz) := by
  refine Met.ofW (cc := cX5_inverse) (maxL := 3) (ret := (some .int)) (by decide +kernel) rfl ?_
  intro p e s m args below meth c s₁ B hml hv
  obtain ⟨rfl, hsz, hP, hK, hD0⟩ := hv
  have hx := B.exec
  have hb := B.bytes
  have hr := B.returns
  have hts := atoms_spec (ws := (ws_ yX5_inverse cX5_inverse 3 (some .int))) B.pre
  have hts : ∀ w ∈ lw_all, w.before _ s = true := fun w h => hts w (List.mem_cons_of_mem _ h)
  have hown : s.vm.findClass RX5 = some m.cls := findClass_of_methodNamed B.named
  have hlocks := B.notSynchronized
  subst hsz
  have hD := tw_Ds (z := s.heap.size) hD0
  have hAA := fun z (h : s.heap.size ≤ z) => tw_Am (m0 := m0) (ad := ad) h
  generalize hAe : tw_A m0 ad s.heap.size = A at hD hAA ⊢
  have hS : va_S A s.heap s.heap [] := va_S.rf
  have hP : va_P (dC, dI) vwCl (tw_ws m0 ad cI cZ σ) s.heap := hP
  have hl := lv_entry ([.ref m0, .int p1]) (n := 3) (Nat.le_of_ble_eq_true rfl)
  rw [lg_entry_eq]
  generalize (lg_sl ([.ref m0, .int p1]) ++ List.replicate (3 - (lg_sl ([.ref m0, .int p1])).length) Slot.unset).toArray = ls at hl ⊢
  have hl : lv_has ls 3 [(0, .ref m0), (1, .int p1)] := hl
  have loop : ∀ n : Nat, (∀ (σ : Tw) (x1 x2 : Int32), F_inverse_r n 1 σ x1 x2 = some out → ∀ (H : Heap) (locs : List Loc), va_P (dC, dI) vwCl (tw_ws m0 ad cI cZ σ) H → va_D A (tw_ws m0 ad cI cZ σ) → va_S A s.heap H locs → ∀ ls : Array Slot, lv_has ls 3 [(0, .ref m0), (1, .int x1), (2, .int x2)] → W p l e (headSpec (ws_ yX5_inverse cX5_inverse 3 (some .int)) ({ frames := 0, cells := 0, slots := 0, locals := 0 })).room s m ([.ref m0, .int p1] : List Value).toArray below meth c H locs 0 0 (MQ below (va_Qi (fun r u => (r, u) = out) (tw_B dC dI cI cZ m0 ad) A) ([.ref m0, .int p1] : List Value).toArray s 0 0 A) (F0 m 2 ls [])) := by
    intro n
    induction n with
    | zero => exact (fun _ _ _ h => nomatch h)
    | succ n ih =>
      have lp1 := ih
      intro σ x1 x2 hF H locs hP hD hS ls hl
      replace hF : F_inverse_1 (F_inverse_r n) n σ x1 x2 = some out := hF
      unfold F_inverse_1 at hF
      refine lv_iload_n hx hb dX5_inverse_2 rfl (lv_at hl 2 rfl) ?_
      refine lv_iload_n hx hb dX5_inverse_3 rfl (lv_at hl 1 rfl) ?_
      refine lv_imul hx hb dX5_inverse_4 ?_
      refine lv_aload_n hx hb dX5_inverse_5 rfl (lv_at hl 0 rfl) ?_
      refine va_get (D := (dC, dI)) (ci := 0) (v := .ref (ad 0)) (C := RX5) (T := TX5) (N := 28) hx hb hts in_X5 hown hK hP 0 tw_g rfl 0 (by decide) (hts _ q1986) (fun _ h9 => h9) rfl dX5_inverse_6 ?_
      refine lv_iconst (v := 0) hx hb dX5_inverse_9 (by decide) ?_
      obtain ⟨g1, hF⟩ := gd_s hF
      refine va_iald hx hb hK hP 1 0 tw_e0 rfl (inB_in g1) dX5_inverse_10 ?_
      obtain ⟨g2, hF⟩ := gd_s hF
      refine lv_irem hx hb dX5_inverse_11 (nz_of g2) ?_
      refine lv_iconst (v := 1) hx hb dX5_inverse_12 (by decide) ?_
      refine lv_icmp_eq (tgt := 22) hx hb dX5_inverse_13 (by decide) (fun c3 => ?_) (fun c3 => ?_)
      · replace hF := it_t c3 hF
        refine lv_iload_n hx hb dX5_inverse_22 rfl (lv_at hl 2 rfl) ?_
        exact W.iret (v := x2) hx hb hr (fun t ht hW => ⟨⟨x2, σ, rfl, Option.some.inj hF, by rw [ht]; exact hP, va_K.moved hW.alike hK⟩, hS.F ht⟩) hS.2.2 dX5_inverse_23
      · replace hF := it_f c3 hF
        refine lv_iinc (v := (x2 + 1)) (lv' := [(2, .int (x2 + 1)), (0, .ref m0), (1, .int x1)]) hx hb dX5_inverse_16 hl (k := 2) rfl rfl (by decide) rfl (fun ls hl => ?_)
        refine lv_goto (tgt := 2) hx hb dX5_inverse_19 (by decide) ?_
        exact lp1 σ x1 (x2 + 1) hF _ _ hP hD hS ls (lv_sub hl [1, 2, 0] rfl)
  have lp1 := loop n
  unfold F_inverse F_inverse_0 at hF
  refine lv_iconst (v := 1) hx hb dX5_inverse_0 (by decide) ?_
  refine lv_istore_n (lv' := [(2, .int 1), (0, .ref m0), (1, .int p1)]) hx hb dX5_inverse_1 rfl hl (by decide) rfl (fun ls hl => ?_)
  exact lp1 σ p1 1 hF _ _ hP hD hS ls (lv_sub hl [1, 2, 0] rfl)

def F_quotient (n : Nat) (σ : Tw) (p1 : Int32) (p2 : Int32) : Option (Int32 × Tw) := bnd (F_inverse n σ p2) (fun r1 u1 => gd (inB 0 162) (gd (nzB ((u1).2 0 (0 : Int32).toNatClampNeg)) (some (((p1 * r1) - (p1 * r1) / ((u1).2 0 (0 : Int32).toNatClampNeg) * ((u1).2 0 (0 : Int32).toNatClampNeg)), u1))))
set_option maxHeartbeats 4000000 in
set_option maxRecDepth 100000 in
theorem mt_quotient (l : Launch) (dC : Nat → ClassId) (dI : Nat → Nat → Nat) (cI cZ : ClassId) (m0 : Nat) (ad : Nat → Nat) (sz : Nat) (σ : Tw) (n : Nat)  (p1 : Int32) (p2 : Int32) (out : Int32 × Tw) (hF : F_quotient n σ p1 p2 = some out) : Met l yX5_quotient (ws_ yX5_quotient cX5_quotient 3 (some .int)) ({ frames := 1, cells := 0, slots := 0, locals := 22 }) (va_Pc [.ref m0, .int p1, .int p2] (tw_Pre dC dI cI cZ m0 ad sz σ)) (va_Qi (fun r u => (r, u) = out) (tw_B dC dI cI cZ m0 ad) (tw_A m0 ad sz)) 0 0 (tw_A m0 ad sz) := by
  refine Met.ofW (cc := cX5_quotient) (maxL := 3) (ret := (some .int)) (by decide +kernel) rfl ?_
  intro p e s m args below meth c s₁ B hml hv
  obtain ⟨rfl, hsz, hP, hK, hD0⟩ := hv
  have hx := B.exec
  have hb := B.bytes
  have hr := B.returns
  have hts := atoms_spec (ws := (ws_ yX5_quotient cX5_quotient 3 (some .int))) B.pre
  have hts : ∀ w ∈ lw_all, w.before _ s = true := fun w h => hts w (List.mem_cons_of_mem _ h)
  have hown : s.vm.findClass RX5 = some m.cls := findClass_of_methodNamed B.named
  have hlocks := B.notSynchronized
  subst hsz
  have hD := tw_Ds (z := s.heap.size) hD0
  have hAA := fun z (h : s.heap.size ≤ z) => tw_Am (m0 := m0) (ad := ad) h
  generalize hAe : tw_A m0 ad s.heap.size = A at hD hAA ⊢
  have hS : va_S A s.heap s.heap [] := va_S.rf
  have hP : va_P (dC, dI) vwCl (tw_ws m0 ad cI cZ σ) s.heap := hP
  have hl := lv_entry ([.ref m0, .int p1, .int p2]) (n := 3) (Nat.le_of_ble_eq_true rfl)
  rw [lg_entry_eq]
  generalize (lg_sl ([.ref m0, .int p1, .int p2]) ++ List.replicate (3 - (lg_sl ([.ref m0, .int p1, .int p2])).length) Slot.unset).toArray = ls at hl ⊢
  have hl : lv_has ls 3 [(0, .ref m0), (1, .int p1), (2, .int p2)] := hl
  unfold F_quotient at hF
  refine lv_iload_n hx hb dX5_quotient_0 rfl (lv_at hl 1 rfl) ?_
  refine lv_aload_n hx hb dX5_quotient_1 rfl (lv_at hl 0 rfl) ?_
  refine lv_iload_n hx hb dX5_quotient_2 rfl (lv_at hl 2 rfl) ?_
  obtain ⟨r1, u1, e1, hF⟩ := bnd_s hF
  refine tw_calli (va_runV (As := [.int p2]) (rest := [.int p1]) ⟨hx, hb, hml, hown, hts⟩ (mt_inverse l dC dI cI cZ m0 ad s.heap.size σ n  p2 _ e1) (cwV 1 hts (lw_V q2280 q2282 qs76 q125 q2283) rfl rfl rfl (by decide +kernel) ⟨Nat.le_of_ble_eq_true rfl, Nat.le_of_ble_eq_true rfl⟩) (tw_preV hK hP hD _) rfl rfl hl.1 rfl (lv_room (Nat.le_of_ble_eq_true rfl)) dX5_quotient_3 ⟨Nat.le_of_ble_eq_true rfl, Nat.le_of_ble_eq_true rfl⟩) hS hD hAA (fun rr uu H locs hw hP hD hS => ?_)
  obtain rfl : r1 = rr := (congrArg Prod.fst hw).symm
  obtain rfl : u1 = uu := (congrArg Prod.snd hw).symm
  refine lv_imul hx hb dX5_quotient_6 ?_
  refine lv_aload_n hx hb dX5_quotient_7 rfl (lv_at hl 0 rfl) ?_
  refine va_get (D := (dC, dI)) (ci := 0) (v := .ref (ad 0)) (C := RX5) (T := TX5) (N := 28) hx hb hts in_X5 hown hK hP 0 tw_g rfl 0 (by decide) (hts _ q1986) (fun _ h9 => h9) rfl dX5_quotient_8 ?_
  refine lv_iconst (v := 0) hx hb dX5_quotient_11 (by decide) ?_
  obtain ⟨g2, hF⟩ := gd_s hF
  refine va_iald hx hb hK hP 1 0 tw_e0 rfl (inB_in g2) dX5_quotient_12 ?_
  obtain ⟨g3, hF⟩ := gd_s hF
  refine lv_irem hx hb dX5_quotient_13 (nz_of g3) ?_
  exact W.iret (v := ((p1 * r1) - (p1 * r1) / ((u1).2 0 (0 : Int32).toNatClampNeg) * ((u1).2 0 (0 : Int32).toNatClampNeg))) hx hb hr (fun t ht hW => ⟨⟨((p1 * r1) - (p1 * r1) / ((u1).2 0 (0 : Int32).toNatClampNeg) * ((u1).2 0 (0 : Int32).toNatClampNeg)), u1, rfl, Option.some.inj hF, by rw [ht]; exact hP, va_K.moved hW.alike hK⟩, hS.F ht⟩) hS.2.2 dX5_quotient_14

def F_isPlace (σ : Tw) (p1 : Int32) : Option (Int32 × Tw) := gd (inB 1 162) (bnd (F_isIn σ p1 0 (((σ).2 0 (1 : Int32).toNatClampNeg) - 1)) (fun r2 u2 => gd (zbB r2) (some (r2, u2))))
set_option maxHeartbeats 4000000 in
set_option maxRecDepth 100000 in
theorem mt_isPlace (l : Launch) (dC : Nat → ClassId) (dI : Nat → Nat → Nat) (cI cZ : ClassId) (m0 : Nat) (ad : Nat → Nat) (sz : Nat) (σ : Tw)  (p1 : Int32) (out : Int32 × Tw) (hF : F_isPlace σ p1 = some out) : Met l yX5_isPlace (ws_ yX5_isPlace cX5_isPlace 2 (some .boolean)) ({ frames := 1, cells := 0, slots := 0, locals := 22 }) (va_Pc [.ref m0, .int p1] (tw_Pre dC dI cI cZ m0 ad sz σ)) (va_Qi (fun r u => (r, u) = out) (tw_B dC dI cI cZ m0 ad) (tw_A m0 ad sz)) 0 0 (tw_A m0 ad sz) := by
  refine Met.ofW (cc := cX5_isPlace) (maxL := 2) (ret := (some .boolean)) (by decide +kernel) rfl ?_
  intro p e s m args below meth c s₁ B hml hv
  obtain ⟨rfl, hsz, hP, hK, hD0⟩ := hv
  have hx := B.exec
  have hb := B.bytes
  have hr := B.returns
  have hts := atoms_spec (ws := (ws_ yX5_isPlace cX5_isPlace 2 (some .boolean))) B.pre
  have hts : ∀ w ∈ lw_all, w.before _ s = true := fun w h => hts w (List.mem_cons_of_mem _ h)
  have hown : s.vm.findClass RX5 = some m.cls := findClass_of_methodNamed B.named
  have hlocks := B.notSynchronized
  subst hsz
  have hD := tw_Ds (z := s.heap.size) hD0
  have hAA := fun z (h : s.heap.size ≤ z) => tw_Am (m0 := m0) (ad := ad) h
  generalize hAe : tw_A m0 ad s.heap.size = A at hD hAA ⊢
  have hS : va_S A s.heap s.heap [] := va_S.rf
  have hP : va_P (dC, dI) vwCl (tw_ws m0 ad cI cZ σ) s.heap := hP
  have hl := lv_entry ([.ref m0, .int p1]) (n := 2) (Nat.le_of_ble_eq_true rfl)
  rw [lg_entry_eq]
  generalize (lg_sl ([.ref m0, .int p1]) ++ List.replicate (2 - (lg_sl ([.ref m0, .int p1])).length) Slot.unset).toArray = ls at hl ⊢
  have hl : lv_has ls 2 [(0, .ref m0), (1, .int p1)] := hl
  unfold F_isPlace at hF
  refine lv_iload_n hx hb dX5_isPlace_0 rfl (lv_at hl 1 rfl) ?_
  refine lv_iconst (v := 0) hx hb dX5_isPlace_1 (by decide) ?_
  refine lv_aload_n hx hb dX5_isPlace_2 rfl (lv_at hl 0 rfl) ?_
  refine va_get (D := (dC, dI)) (ci := 0) (v := .ref (ad 0)) (C := RX5) (T := TX5) (N := 28) hx hb hts in_X5 hown hK hP 0 tw_g rfl 0 (by decide) (hts _ q1986) (fun _ h9 => h9) rfl dX5_isPlace_3 ?_
  refine lv_iconst (v := 1) hx hb dX5_isPlace_6 (by decide) ?_
  obtain ⟨g1, hF⟩ := gd_s hF
  refine va_iald hx hb hK hP 1 0 tw_e0 rfl (inB_in g1) dX5_isPlace_7 ?_
  refine lv_iconst (v := 1) hx hb dX5_isPlace_8 (by decide) ?_
  refine lv_isub hx hb dX5_isPlace_9 ?_
  obtain ⟨r2, u2, e2, hF⟩ := bnd_s hF
  refine tw_calli (va_runS (As := [.int p1, .int 0, .int (((σ).2 0 (1 : Int32).toNatClampNeg) - 1)]) (rest := []) ⟨hx, hb, hml, hown, hts⟩ (mt_isIn l dC dI cI cZ m0 ad s.heap.size σ  p1 0 (((σ).2 0 (1 : Int32).toNatClampNeg) - 1) _ e2) (va_cwS 3 hts (lw_S q2084 q2085 q125 q2086) rfl rfl rfl (by decide +kernel) ⟨Nat.le_of_ble_eq_true rfl, Nat.le_of_ble_eq_true rfl⟩) (tw_preS hK hP hD _) rfl rfl hl.1 rfl (lv_room (Nat.le_of_ble_eq_true rfl)) dX5_isPlace_10 ⟨Nat.le_of_ble_eq_true rfl, Nat.le_of_ble_eq_true rfl⟩) hS hD hAA (fun rr uu H locs hw hP hD hS => ?_)
  obtain rfl : r2 = rr := (congrArg Prod.fst hw).symm
  obtain rfl : u2 = uu := (congrArg Prod.snd hw).symm
  obtain ⟨g3, hF⟩ := gd_s hF
  exact W.zret (v := r2) hx hb hr (zb_of g3) (fun t ht hW => ⟨⟨r2, u2, rfl, Option.some.inj hF, by rw [ht]; exact hP, va_K.moved hW.alike hK⟩, hS.F ht⟩) hS.2.2 dX5_isPlace_13

def F_isNumber (σ : Tw) (p1 : Int32) : Option (Int32 × Tw) := gd (inB 0 162) (bnd (F_isIn σ p1 0 (((σ).2 0 (0 : Int32).toNatClampNeg) - 1)) (fun r2 u2 => gd (zbB r2) (some (r2, u2))))
set_option maxHeartbeats 4000000 in
set_option maxRecDepth 100000 in
theorem mt_isNumber (l : Launch) (dC : Nat → ClassId) (dI : Nat → Nat → Nat) (cI cZ : ClassId) (m0 : Nat) (ad : Nat → Nat) (sz : Nat) (σ : Tw)  (p1 : Int32) (out : Int32 × Tw) (hF : F_isNumber σ p1 = some out) : Met l yX5_isNumber (ws_ yX5_isNumber cX5_isNumber 2 (some .boolean)) ({ frames := 1, cells := 0, slots := 0, locals := 22 }) (va_Pc [.ref m0, .int p1] (tw_Pre dC dI cI cZ m0 ad sz σ)) (va_Qi (fun r u => (r, u) = out) (tw_B dC dI cI cZ m0 ad) (tw_A m0 ad sz)) 0 0 (tw_A m0 ad sz) := by
  refine Met.ofW (cc := cX5_isNumber) (maxL := 2) (ret := (some .boolean)) (by decide +kernel) rfl ?_
  intro p e s m args below meth c s₁ B hml hv
  obtain ⟨rfl, hsz, hP, hK, hD0⟩ := hv
  have hx := B.exec
  have hb := B.bytes
  have hr := B.returns
  have hts := atoms_spec (ws := (ws_ yX5_isNumber cX5_isNumber 2 (some .boolean))) B.pre
  have hts : ∀ w ∈ lw_all, w.before _ s = true := fun w h => hts w (List.mem_cons_of_mem _ h)
  have hown : s.vm.findClass RX5 = some m.cls := findClass_of_methodNamed B.named
  have hlocks := B.notSynchronized
  subst hsz
  have hD := tw_Ds (z := s.heap.size) hD0
  have hAA := fun z (h : s.heap.size ≤ z) => tw_Am (m0 := m0) (ad := ad) h
  generalize hAe : tw_A m0 ad s.heap.size = A at hD hAA ⊢
  have hS : va_S A s.heap s.heap [] := va_S.rf
  have hP : va_P (dC, dI) vwCl (tw_ws m0 ad cI cZ σ) s.heap := hP
  have hl := lv_entry ([.ref m0, .int p1]) (n := 2) (Nat.le_of_ble_eq_true rfl)
  rw [lg_entry_eq]
  generalize (lg_sl ([.ref m0, .int p1]) ++ List.replicate (2 - (lg_sl ([.ref m0, .int p1])).length) Slot.unset).toArray = ls at hl ⊢
  have hl : lv_has ls 2 [(0, .ref m0), (1, .int p1)] := hl
  unfold F_isNumber at hF
  refine lv_iload_n hx hb dX5_isNumber_0 rfl (lv_at hl 1 rfl) ?_
  refine lv_iconst (v := 0) hx hb dX5_isNumber_1 (by decide) ?_
  refine lv_aload_n hx hb dX5_isNumber_2 rfl (lv_at hl 0 rfl) ?_
  refine va_get (D := (dC, dI)) (ci := 0) (v := .ref (ad 0)) (C := RX5) (T := TX5) (N := 28) hx hb hts in_X5 hown hK hP 0 tw_g rfl 0 (by decide) (hts _ q1986) (fun _ h9 => h9) rfl dX5_isNumber_3 ?_
  refine lv_iconst (v := 0) hx hb dX5_isNumber_6 (by decide) ?_
  obtain ⟨g1, hF⟩ := gd_s hF
  refine va_iald hx hb hK hP 1 0 tw_e0 rfl (inB_in g1) dX5_isNumber_7 ?_
  refine lv_iconst (v := 1) hx hb dX5_isNumber_8 (by decide) ?_
  refine lv_isub hx hb dX5_isNumber_9 ?_
  obtain ⟨r2, u2, e2, hF⟩ := bnd_s hF
  refine tw_calli (va_runS (As := [.int p1, .int 0, .int (((σ).2 0 (0 : Int32).toNatClampNeg) - 1)]) (rest := []) ⟨hx, hb, hml, hown, hts⟩ (mt_isIn l dC dI cI cZ m0 ad s.heap.size σ  p1 0 (((σ).2 0 (0 : Int32).toNatClampNeg) - 1) _ e2) (va_cwS 3 hts (lw_S q2084 q2085 q125 q2086) rfl rfl rfl (by decide +kernel) ⟨Nat.le_of_ble_eq_true rfl, Nat.le_of_ble_eq_true rfl⟩) (tw_preS hK hP hD _) rfl rfl hl.1 rfl (lv_room (Nat.le_of_ble_eq_true rfl)) dX5_isNumber_10 ⟨Nat.le_of_ble_eq_true rfl, Nat.le_of_ble_eq_true rfl⟩) hS hD hAA (fun rr uu H locs hw hP hD hS => ?_)
  obtain rfl : r2 = rr := (congrArg Prod.fst hw).symm
  obtain rfl : u2 = uu := (congrArg Prod.snd hw).symm
  obtain ⟨g3, hF⟩ := gd_s hF
  exact W.zret (v := r2) hx hb hr (zb_of g3) (fun t ht hW => ⟨⟨r2, u2, rfl, Option.some.inj hF, by rw [ht]; exact hP, va_K.moved hW.alike hK⟩, hS.F ht⟩) hS.2.2 dX5_isNumber_13

def F_cellOf (σ : Tw) (p1 : Int32) (p2 : Int32) : Option (Int32 × Tw) := gd (inB ((9 + (8 * p1)) + p2) 162) (some (((σ).2 0 (((9 + (8 * p1)) + p2)).toNatClampNeg), σ))
set_option maxHeartbeats 4000000 in
set_option maxRecDepth 100000 in
theorem mt_cellOf (l : Launch) (dC : Nat → ClassId) (dI : Nat → Nat → Nat) (cI cZ : ClassId) (m0 : Nat) (ad : Nat → Nat) (sz : Nat) (σ : Tw)  (p1 : Int32) (p2 : Int32) (out : Int32 × Tw) (hF : F_cellOf σ p1 p2 = some out) : Met l yX5_cellOf (ws_ yX5_cellOf cX5_cellOf 3 (some .int)) ({ frames := 0, cells := 0, slots := 0, locals := 0 }) (va_Pc [.ref m0, .int p1, .int p2] (tw_Pre dC dI cI cZ m0 ad sz σ)) (va_Qi (fun r u => (r, u) = out) (tw_B dC dI cI cZ m0 ad) (tw_A m0 ad sz)) 0 0 (tw_A m0 ad sz) := by
  refine Met.ofW (cc := cX5_cellOf) (maxL := 3) (ret := (some .int)) (by decide +kernel) rfl ?_
  intro p e s m args below meth c s₁ B hml hv
  obtain ⟨rfl, hsz, hP, hK, hD0⟩ := hv
  have hx := B.exec
  have hb := B.bytes
  have hr := B.returns
  have hts := atoms_spec (ws := (ws_ yX5_cellOf cX5_cellOf 3 (some .int))) B.pre
  have hts : ∀ w ∈ lw_all, w.before _ s = true := fun w h => hts w (List.mem_cons_of_mem _ h)
  have hown : s.vm.findClass RX5 = some m.cls := findClass_of_methodNamed B.named
  have hlocks := B.notSynchronized
  subst hsz
  have hD := tw_Ds (z := s.heap.size) hD0
  have hAA := fun z (h : s.heap.size ≤ z) => tw_Am (m0 := m0) (ad := ad) h
  generalize hAe : tw_A m0 ad s.heap.size = A at hD hAA ⊢
  have hS : va_S A s.heap s.heap [] := va_S.rf
  have hP : va_P (dC, dI) vwCl (tw_ws m0 ad cI cZ σ) s.heap := hP
  have hl := lv_entry ([.ref m0, .int p1, .int p2]) (n := 3) (Nat.le_of_ble_eq_true rfl)
  rw [lg_entry_eq]
  generalize (lg_sl ([.ref m0, .int p1, .int p2]) ++ List.replicate (3 - (lg_sl ([.ref m0, .int p1, .int p2])).length) Slot.unset).toArray = ls at hl ⊢
  have hl : lv_has ls 3 [(0, .ref m0), (1, .int p1), (2, .int p2)] := hl
  unfold F_cellOf at hF
  refine lv_aload_n hx hb dX5_cellOf_0 rfl (lv_at hl 0 rfl) ?_
  refine va_get (D := (dC, dI)) (ci := 0) (v := .ref (ad 0)) (C := RX5) (T := TX5) (N := 28) hx hb hts in_X5 hown hK hP 0 tw_g rfl 0 (by decide) (hts _ q1986) (fun _ h9 => h9) rfl dX5_cellOf_1 ?_
  refine lv_bipush (v := 9) hx hb dX5_cellOf_4 (by decide) ?_
  refine lv_bipush (v := 8) hx hb dX5_cellOf_6 (by decide) ?_
  refine lv_iload_n hx hb dX5_cellOf_8 rfl (lv_at hl 1 rfl) ?_
  refine lv_imul hx hb dX5_cellOf_9 ?_
  refine lv_iadd hx hb dX5_cellOf_10 ?_
  refine lv_iload_n hx hb dX5_cellOf_11 rfl (lv_at hl 2 rfl) ?_
  refine lv_iadd hx hb dX5_cellOf_12 ?_
  obtain ⟨g1, hF⟩ := gd_s hF
  refine va_iald hx hb hK hP 1 0 tw_e0 rfl (inB_in g1) dX5_cellOf_13 ?_
  exact W.iret (v := ((σ).2 0 (((9 + (8 * p1)) + p2)).toNatClampNeg)) hx hb hr (fun t ht hW => ⟨⟨((σ).2 0 (((9 + (8 * p1)) + p2)).toNatClampNeg), σ, rfl, Option.some.inj hF, by rw [ht]; exact hP, va_K.moved hW.alike hK⟩, hS.F ht⟩) hS.2.2 dX5_cellOf_14

def F_count (σ : Tw) (p1 : Int32) : Option (Int32 × Tw) := bnd (F_isIn σ p1 0 8) (fun r1 u1 => if r1 = 0 then if (((tw_sf u1 6 1)).1 6) ≤ 0 then gd (inB p1 162) (some ((((tw_sf u1 6 1)).2 0 (p1).toNatClampNeg), (tw_sf u1 6 1))) else some (0, (tw_sf u1 6 1)) else if (((tw_sf u1 6 0)).1 6) ≤ 0 then gd (inB p1 162) (some ((((tw_sf u1 6 0)).2 0 (p1).toNatClampNeg), (tw_sf u1 6 0))) else some (0, (tw_sf u1 6 0)))
set_option maxHeartbeats 4000000 in
set_option maxRecDepth 100000 in
theorem mt_count (l : Launch) (dC : Nat → ClassId) (dI : Nat → Nat → Nat) (cI cZ : ClassId) (m0 : Nat) (ad : Nat → Nat) (sz : Nat) (σ : Tw)  (p1 : Int32) (out : Int32 × Tw) (hF : F_count σ p1 = some out) : Met l yX5_count (ws_ yX5_count cX5_count 2 (some .int)) ({ frames := 1, cells := 0, slots := 0, locals := 22 }) (va_Pc [.ref m0, .int p1] (tw_Pre dC dI cI cZ m0 ad sz σ)) (va_Qi (fun r u => (r, u) = out) (tw_B dC dI cI cZ m0 ad) (tw_A m0 ad sz)) 0 0 (tw_A m0 ad sz) := by
  refine Met.ofW (cc := cX5_count) (maxL := 2) (ret := (some .int)) (by decide +kernel) rfl ?_
  intro p e s m args below meth c s₁ B hml hv
  obtain ⟨rfl, hsz, hP, hK, hD0⟩ := hv
  have hx := B.exec
  have hb := B.bytes
  have hr := B.returns
  have hts := atoms_spec (ws := (ws_ yX5_count cX5_count 2 (some .int))) B.pre
  have hts : ∀ w ∈ lw_all, w.before _ s = true := fun w h => hts w (List.mem_cons_of_mem _ h)
  have hown : s.vm.findClass RX5 = some m.cls := findClass_of_methodNamed B.named
  have hlocks := B.notSynchronized
  subst hsz
  have hD := tw_Ds (z := s.heap.size) hD0
  have hAA := fun z (h : s.heap.size ≤ z) => tw_Am (m0 := m0) (ad := ad) h
  generalize hAe : tw_A m0 ad s.heap.size = A at hD hAA ⊢
  have hS : va_S A s.heap s.heap [] := va_S.rf
  have hP : va_P (dC, dI) vwCl (tw_ws m0 ad cI cZ σ) s.heap := hP
  have hl := lv_entry ([.ref m0, .int p1]) (n := 2) (Nat.le_of_ble_eq_true rfl)
  rw [lg_entry_eq]
  generalize (lg_sl ([.ref m0, .int p1]) ++ List.replicate (2 - (lg_sl ([.ref m0, .int p1])).length) Slot.unset).toArray = ls at hl ⊢
  have hl : lv_has ls 2 [(0, .ref m0), (1, .int p1)] := hl
  unfold F_count at hF
  refine lv_aload_n hx hb dX5_count_0 rfl (lv_at hl 0 rfl) ?_
  refine lv_iload_n hx hb dX5_count_1 rfl (lv_at hl 1 rfl) ?_
  refine lv_iconst (v := 0) hx hb dX5_count_2 (by decide) ?_
  refine lv_bipush (v := 8) hx hb dX5_count_3 (by decide) ?_
  obtain ⟨r1, u1, e1, hF⟩ := bnd_s hF
  refine tw_calli (va_runS (As := [.int p1, .int 0, .int 8]) (rest := [.ref m0]) ⟨hx, hb, hml, hown, hts⟩ (mt_isIn l dC dI cI cZ m0 ad s.heap.size σ  p1 0 8 _ e1) (va_cwS 3 hts (lw_S q2084 q2085 q125 q2086) rfl rfl rfl (by decide +kernel) ⟨Nat.le_of_ble_eq_true rfl, Nat.le_of_ble_eq_true rfl⟩) (tw_preS hK hP hD _) rfl rfl hl.1 rfl (lv_room (Nat.le_of_ble_eq_true rfl)) dX5_count_5 ⟨Nat.le_of_ble_eq_true rfl, Nat.le_of_ble_eq_true rfl⟩) hS hD hAA (fun rr uu H locs hw hP hD hS => ?_)
  obtain rfl : r1 = rr := (congrArg Prod.fst hw).symm
  obtain rfl : u1 = uu := (congrArg Prod.snd hw).symm
  refine lv_if_eq (tgt := 15) hx hb dX5_count_8 (by decide) (fun c2 => ?_) (fun c2 => ?_)
  · replace hF := it_t c2 hF
    refine lv_iconst (v := 1) hx hb dX5_count_15 (by decide) ?_
    refine va_put (D := (dC, dI)) (ci := 0) (v := .int 1) (ty := .int) (C := RX5) (T := TX5) (N := 28) hx hb hts in_X5 tyX5 tyX5_ok nmX5 hown hK hP hD hS 0 tw_g rfl 6 (by decide) (hts _ q1992) (fun _ h9 => h9) rfl (tyX5_ok 6 (by decide)) rfl rfl (Nat.le_of_ble_eq_true rfl) dX5_count_16 (fun H locs hP hD hS => ?_)
    rw [tw_p6] at hP hD
    refine lv_aload_n hx hb dX5_count_19 rfl (lv_at hl 0 rfl) ?_
    refine va_get (D := (dC, dI)) (ci := 0) (v := .int (((tw_sf u1 6 1)).1 6)) (C := RX5) (T := TX5) (N := 28) hx hb hts in_X5 hown hK hP 0 tw_g rfl 6 (by decide) (hts _ q1992) (fun _ h9 => h9) rfl dX5_count_20 ?_
    refine lv_if_le (tgt := 30) hx hb dX5_count_23 (by decide) (fun c3 => ?_) (fun c3 => ?_)
    · replace hF := it_t c3 hF
      refine lv_aload_n hx hb dX5_count_30 rfl (lv_at hl 0 rfl) ?_
      refine va_get (D := (dC, dI)) (ci := 0) (v := .ref (ad 0)) (C := RX5) (T := TX5) (N := 28) hx hb hts in_X5 hown hK hP 0 tw_g rfl 0 (by decide) (hts _ q1986) (fun _ h9 => h9) rfl dX5_count_31 ?_
      refine lv_iload_n hx hb dX5_count_34 rfl (lv_at hl 1 rfl) ?_
      obtain ⟨g4, hF⟩ := gd_s hF
      refine va_iald hx hb hK hP 1 0 tw_e0 rfl (inB_in g4) dX5_count_35 ?_
      exact W.iret (v := (((tw_sf u1 6 1)).2 0 (p1).toNatClampNeg)) hx hb hr (fun t ht hW => ⟨⟨(((tw_sf u1 6 1)).2 0 (p1).toNatClampNeg), (tw_sf u1 6 1), rfl, Option.some.inj hF, by rw [ht]; exact hP, va_K.moved hW.alike hK⟩, hS.F ht⟩) hS.2.2 dX5_count_36
    · replace hF := it_f c3 hF
      refine lv_iconst (v := 0) hx hb dX5_count_26 (by decide) ?_
      refine lv_goto (tgt := 36) hx hb dX5_count_27 (by decide) ?_
      exact W.iret (v := 0) hx hb hr (fun t ht hW => ⟨⟨0, (tw_sf u1 6 1), rfl, Option.some.inj hF, by rw [ht]; exact hP, va_K.moved hW.alike hK⟩, hS.F ht⟩) hS.2.2 dX5_count_36
  · replace hF := it_f c2 hF
    refine lv_iconst (v := 0) hx hb dX5_count_11 (by decide) ?_
    refine lv_goto (tgt := 16) hx hb dX5_count_12 (by decide) ?_
    refine va_put (D := (dC, dI)) (ci := 0) (v := .int 0) (ty := .int) (C := RX5) (T := TX5) (N := 28) hx hb hts in_X5 tyX5 tyX5_ok nmX5 hown hK hP hD hS 0 tw_g rfl 6 (by decide) (hts _ q1992) (fun _ h9 => h9) rfl (tyX5_ok 6 (by decide)) rfl rfl (Nat.le_of_ble_eq_true rfl) dX5_count_16 (fun H locs hP hD hS => ?_)
    rw [tw_p6] at hP hD
    refine lv_aload_n hx hb dX5_count_19 rfl (lv_at hl 0 rfl) ?_
    refine va_get (D := (dC, dI)) (ci := 0) (v := .int (((tw_sf u1 6 0)).1 6)) (C := RX5) (T := TX5) (N := 28) hx hb hts in_X5 hown hK hP 0 tw_g rfl 6 (by decide) (hts _ q1992) (fun _ h9 => h9) rfl dX5_count_20 ?_
    refine lv_if_le (tgt := 30) hx hb dX5_count_23 (by decide) (fun c5 => ?_) (fun c5 => ?_)
    · replace hF := it_t c5 hF
      refine lv_aload_n hx hb dX5_count_30 rfl (lv_at hl 0 rfl) ?_
      refine va_get (D := (dC, dI)) (ci := 0) (v := .ref (ad 0)) (C := RX5) (T := TX5) (N := 28) hx hb hts in_X5 hown hK hP 0 tw_g rfl 0 (by decide) (hts _ q1986) (fun _ h9 => h9) rfl dX5_count_31 ?_
      refine lv_iload_n hx hb dX5_count_34 rfl (lv_at hl 1 rfl) ?_
      obtain ⟨g6, hF⟩ := gd_s hF
      refine va_iald hx hb hK hP 1 0 tw_e0 rfl (inB_in g6) dX5_count_35 ?_
      exact W.iret (v := (((tw_sf u1 6 0)).2 0 (p1).toNatClampNeg)) hx hb hr (fun t ht hW => ⟨⟨(((tw_sf u1 6 0)).2 0 (p1).toNatClampNeg), (tw_sf u1 6 0), rfl, Option.some.inj hF, by rw [ht]; exact hP, va_K.moved hW.alike hK⟩, hS.F ht⟩) hS.2.2 dX5_count_36
    · replace hF := it_f c5 hF
      refine lv_iconst (v := 0) hx hb dX5_count_26 (by decide) ?_
      refine lv_goto (tgt := 36) hx hb dX5_count_27 (by decide) ?_
      exact W.iret (v := 0) hx hb hr (fun t ht hW => ⟨⟨0, (tw_sf u1 6 0), rfl, Option.some.inj hF, by rw [ht]; exact hP, va_K.moved hW.alike hK⟩, hS.F ht⟩) hS.2.2 dX5_count_36

def F_cell (σ : Tw) (p1 : Int32) (p2 : Int32) : Option (Int32 × Tw) := bnd (F_isPlace σ p1) (fun r1 u1 => if r1 = 0 then if (((tw_sf u1 6 1)).1 6) ≤ 0 then bnd (F_cellOf (tw_sf u1 6 1) p1 p2) (fun r4 u4 => some (r4, u4)) else some (0, (tw_sf u1 6 1)) else bnd (F_isPlace u1 p2) (fun r5 u5 => if r5 = 0 then if (((tw_sf u5 6 1)).1 6) ≤ 0 then bnd (F_cellOf (tw_sf u5 6 1) p1 p2) (fun r8 u8 => some (r8, u8)) else some (0, (tw_sf u5 6 1)) else if (((tw_sf u5 6 0)).1 6) ≤ 0 then bnd (F_cellOf (tw_sf u5 6 0) p1 p2) (fun r10 u10 => some (r10, u10)) else some (0, (tw_sf u5 6 0))))
set_option maxHeartbeats 4000000 in
set_option maxRecDepth 100000 in
theorem mt_cell (l : Launch) (dC : Nat → ClassId) (dI : Nat → Nat → Nat) (cI cZ : ClassId) (m0 : Nat) (ad : Nat → Nat) (sz : Nat) (σ : Tw)  (p1 : Int32) (p2 : Int32) (out : Int32 × Tw) (hF : F_cell σ p1 p2 = some out) : Met l yX5_cell (ws_ yX5_cell cX5_cell 3 (some .int)) ({ frames := 2, cells := 0, slots := 0, locals := 43 }) (va_Pc [.ref m0, .int p1, .int p2] (tw_Pre dC dI cI cZ m0 ad sz σ)) (va_Qi (fun r u => (r, u) = out) (tw_B dC dI cI cZ m0 ad) (tw_A m0 ad sz)) 0 0 (tw_A m0 ad sz) := by
  refine Met.ofW (cc := cX5_cell) (maxL := 3) (ret := (some .int)) (by decide +kernel) rfl ?_
  intro p e s m args below meth c s₁ B hml hv
  obtain ⟨rfl, hsz, hP, hK, hD0⟩ := hv
  have hx := B.exec
  have hb := B.bytes
  have hr := B.returns
  have hts := atoms_spec (ws := (ws_ yX5_cell cX5_cell 3 (some .int))) B.pre
  have hts : ∀ w ∈ lw_all, w.before _ s = true := fun w h => hts w (List.mem_cons_of_mem _ h)
  have hown : s.vm.findClass RX5 = some m.cls := findClass_of_methodNamed B.named
  have hlocks := B.notSynchronized
  subst hsz
  have hD := tw_Ds (z := s.heap.size) hD0
  have hAA := fun z (h : s.heap.size ≤ z) => tw_Am (m0 := m0) (ad := ad) h
  generalize hAe : tw_A m0 ad s.heap.size = A at hD hAA ⊢
  have hS : va_S A s.heap s.heap [] := va_S.rf
  have hP : va_P (dC, dI) vwCl (tw_ws m0 ad cI cZ σ) s.heap := hP
  have hl := lv_entry ([.ref m0, .int p1, .int p2]) (n := 3) (Nat.le_of_ble_eq_true rfl)
  rw [lg_entry_eq]
  generalize (lg_sl ([.ref m0, .int p1, .int p2]) ++ List.replicate (3 - (lg_sl ([.ref m0, .int p1, .int p2])).length) Slot.unset).toArray = ls at hl ⊢
  have hl : lv_has ls 3 [(0, .ref m0), (1, .int p1), (2, .int p2)] := hl
  unfold F_cell at hF
  refine lv_aload_n hx hb dX5_cell_0 rfl (lv_at hl 0 rfl) ?_
  refine lv_aload_n hx hb dX5_cell_1 rfl (lv_at hl 0 rfl) ?_
  refine lv_iload_n hx hb dX5_cell_2 rfl (lv_at hl 1 rfl) ?_
  obtain ⟨r1, u1, e1, hF⟩ := bnd_s hF
  refine tw_calli (va_runV (As := [.int p1]) (rest := [.ref m0]) ⟨hx, hb, hml, hown, hts⟩ (mt_isPlace l dC dI cI cZ m0 ad s.heap.size σ  p1 _ e1) (cwV 1 hts (lw_V q2177 q2179 qs58 q125 q2180) rfl rfl rfl (by decide +kernel) ⟨Nat.le_of_ble_eq_true rfl, Nat.le_of_ble_eq_true rfl⟩) (tw_preV hK hP hD _) rfl rfl hl.1 rfl (lv_room (Nat.le_of_ble_eq_true rfl)) dX5_cell_3 ⟨Nat.le_of_ble_eq_true rfl, Nat.le_of_ble_eq_true rfl⟩) hS hD hAA (fun rr uu H locs hw hP hD hS => ?_)
  obtain rfl : r1 = rr := (congrArg Prod.fst hw).symm
  obtain rfl : u1 = uu := (congrArg Prod.snd hw).symm
  refine lv_if_eq (tgt := 21) hx hb dX5_cell_6 (by decide) (fun c2 => ?_) (fun c2 => ?_)
  · replace hF := it_t c2 hF
    refine lv_iconst (v := 1) hx hb dX5_cell_21 (by decide) ?_
    refine va_put (D := (dC, dI)) (ci := 0) (v := .int 1) (ty := .int) (C := RX5) (T := TX5) (N := 28) hx hb hts in_X5 tyX5 tyX5_ok nmX5 hown hK hP hD hS 0 tw_g rfl 6 (by decide) (hts _ q1992) (fun _ h9 => h9) rfl (tyX5_ok 6 (by decide)) rfl rfl (Nat.le_of_ble_eq_true rfl) dX5_cell_22 (fun H locs hP hD hS => ?_)
    rw [tw_p6] at hP hD
    refine lv_aload_n hx hb dX5_cell_25 rfl (lv_at hl 0 rfl) ?_
    refine va_get (D := (dC, dI)) (ci := 0) (v := .int (((tw_sf u1 6 1)).1 6)) (C := RX5) (T := TX5) (N := 28) hx hb hts in_X5 hown hK hP 0 tw_g rfl 6 (by decide) (hts _ q1992) (fun _ h9 => h9) rfl dX5_cell_26 ?_
    refine lv_if_le (tgt := 36) hx hb dX5_cell_29 (by decide) (fun c3 => ?_) (fun c3 => ?_)
    · replace hF := it_t c3 hF
      refine lv_aload_n hx hb dX5_cell_36 rfl (lv_at hl 0 rfl) ?_
      refine lv_iload_n hx hb dX5_cell_37 rfl (lv_at hl 1 rfl) ?_
      refine lv_iload_n hx hb dX5_cell_38 rfl (lv_at hl 2 rfl) ?_
      obtain ⟨r4, u4, e4, hF⟩ := bnd_s hF
      refine tw_calli (va_runV (As := [.int p1, .int p2]) (rest := []) ⟨hx, hb, hml, hown, hts⟩ (mt_cellOf l dC dI cI cZ m0 ad H.size (tw_sf u1 6 1)  p1 p2 _ e4) (cwV 2 hts (lw_V q2181 q2183 qs59 q125 q2184) rfl rfl rfl (by decide +kernel) ⟨Nat.le_of_ble_eq_true rfl, Nat.le_of_ble_eq_true rfl⟩) (tw_preV hK hP hD _) rfl rfl hl.1 rfl (lv_room (Nat.le_of_ble_eq_true rfl)) dX5_cell_39 ⟨Nat.le_of_ble_eq_true rfl, Nat.le_of_ble_eq_true rfl⟩) hS hD hAA (fun rr uu H locs hw hP hD hS => ?_)
      obtain rfl : r4 = rr := (congrArg Prod.fst hw).symm
      obtain rfl : u4 = uu := (congrArg Prod.snd hw).symm
      exact W.iret (v := r4) hx hb hr (fun t ht hW => ⟨⟨r4, u4, rfl, Option.some.inj hF, by rw [ht]; exact hP, va_K.moved hW.alike hK⟩, hS.F ht⟩) hS.2.2 dX5_cell_42
    · replace hF := it_f c3 hF
      refine lv_iconst (v := 0) hx hb dX5_cell_32 (by decide) ?_
      refine lv_goto (tgt := 42) hx hb dX5_cell_33 (by decide) ?_
      exact W.iret (v := 0) hx hb hr (fun t ht hW => ⟨⟨0, (tw_sf u1 6 1), rfl, Option.some.inj hF, by rw [ht]; exact hP, va_K.moved hW.alike hK⟩, hS.F ht⟩) hS.2.2 dX5_cell_42
  · replace hF := it_f c2 hF
    refine lv_aload_n hx hb dX5_cell_9 rfl (lv_at hl 0 rfl) ?_
    refine lv_iload_n hx hb dX5_cell_10 rfl (lv_at hl 2 rfl) ?_
    obtain ⟨r5, u5, e5, hF⟩ := bnd_s hF
    refine tw_calli (va_runV (As := [.int p2]) (rest := [.ref m0]) ⟨hx, hb, hml, hown, hts⟩ (mt_isPlace l dC dI cI cZ m0 ad H.size u1  p2 _ e5) (cwV 1 hts (lw_V q2177 q2179 qs58 q125 q2180) rfl rfl rfl (by decide +kernel) ⟨Nat.le_of_ble_eq_true rfl, Nat.le_of_ble_eq_true rfl⟩) (tw_preV hK hP hD _) rfl rfl hl.1 rfl (lv_room (Nat.le_of_ble_eq_true rfl)) dX5_cell_11 ⟨Nat.le_of_ble_eq_true rfl, Nat.le_of_ble_eq_true rfl⟩) hS hD hAA (fun rr uu H locs hw hP hD hS => ?_)
    obtain rfl : r5 = rr := (congrArg Prod.fst hw).symm
    obtain rfl : u5 = uu := (congrArg Prod.snd hw).symm
    refine lv_if_eq (tgt := 21) hx hb dX5_cell_14 (by decide) (fun c6 => ?_) (fun c6 => ?_)
    · replace hF := it_t c6 hF
      refine lv_iconst (v := 1) hx hb dX5_cell_21 (by decide) ?_
      refine va_put (D := (dC, dI)) (ci := 0) (v := .int 1) (ty := .int) (C := RX5) (T := TX5) (N := 28) hx hb hts in_X5 tyX5 tyX5_ok nmX5 hown hK hP hD hS 0 tw_g rfl 6 (by decide) (hts _ q1992) (fun _ h9 => h9) rfl (tyX5_ok 6 (by decide)) rfl rfl (Nat.le_of_ble_eq_true rfl) dX5_cell_22 (fun H locs hP hD hS => ?_)
      rw [tw_p6] at hP hD
      refine lv_aload_n hx hb dX5_cell_25 rfl (lv_at hl 0 rfl) ?_
      refine va_get (D := (dC, dI)) (ci := 0) (v := .int (((tw_sf u5 6 1)).1 6)) (C := RX5) (T := TX5) (N := 28) hx hb hts in_X5 hown hK hP 0 tw_g rfl 6 (by decide) (hts _ q1992) (fun _ h9 => h9) rfl dX5_cell_26 ?_
      refine lv_if_le (tgt := 36) hx hb dX5_cell_29 (by decide) (fun c7 => ?_) (fun c7 => ?_)
      · replace hF := it_t c7 hF
        refine lv_aload_n hx hb dX5_cell_36 rfl (lv_at hl 0 rfl) ?_
        refine lv_iload_n hx hb dX5_cell_37 rfl (lv_at hl 1 rfl) ?_
        refine lv_iload_n hx hb dX5_cell_38 rfl (lv_at hl 2 rfl) ?_
        obtain ⟨r8, u8, e8, hF⟩ := bnd_s hF
        refine tw_calli (va_runV (As := [.int p1, .int p2]) (rest := []) ⟨hx, hb, hml, hown, hts⟩ (mt_cellOf l dC dI cI cZ m0 ad H.size (tw_sf u5 6 1)  p1 p2 _ e8) (cwV 2 hts (lw_V q2181 q2183 qs59 q125 q2184) rfl rfl rfl (by decide +kernel) ⟨Nat.le_of_ble_eq_true rfl, Nat.le_of_ble_eq_true rfl⟩) (tw_preV hK hP hD _) rfl rfl hl.1 rfl (lv_room (Nat.le_of_ble_eq_true rfl)) dX5_cell_39 ⟨Nat.le_of_ble_eq_true rfl, Nat.le_of_ble_eq_true rfl⟩) hS hD hAA (fun rr uu H locs hw hP hD hS => ?_)
        obtain rfl : r8 = rr := (congrArg Prod.fst hw).symm
        obtain rfl : u8 = uu := (congrArg Prod.snd hw).symm
        exact W.iret (v := r8) hx hb hr (fun t ht hW => ⟨⟨r8, u8, rfl, Option.some.inj hF, by rw [ht]; exact hP, va_K.moved hW.alike hK⟩, hS.F ht⟩) hS.2.2 dX5_cell_42
      · replace hF := it_f c7 hF
        refine lv_iconst (v := 0) hx hb dX5_cell_32 (by decide) ?_
        refine lv_goto (tgt := 42) hx hb dX5_cell_33 (by decide) ?_
        exact W.iret (v := 0) hx hb hr (fun t ht hW => ⟨⟨0, (tw_sf u5 6 1), rfl, Option.some.inj hF, by rw [ht]; exact hP, va_K.moved hW.alike hK⟩, hS.F ht⟩) hS.2.2 dX5_cell_42
    · replace hF := it_f c6 hF
      refine lv_iconst (v := 0) hx hb dX5_cell_17 (by decide) ?_
      refine lv_goto (tgt := 22) hx hb dX5_cell_18 (by decide) ?_
      refine va_put (D := (dC, dI)) (ci := 0) (v := .int 0) (ty := .int) (C := RX5) (T := TX5) (N := 28) hx hb hts in_X5 tyX5 tyX5_ok nmX5 hown hK hP hD hS 0 tw_g rfl 6 (by decide) (hts _ q1992) (fun _ h9 => h9) rfl (tyX5_ok 6 (by decide)) rfl rfl (Nat.le_of_ble_eq_true rfl) dX5_cell_22 (fun H locs hP hD hS => ?_)
      rw [tw_p6] at hP hD
      refine lv_aload_n hx hb dX5_cell_25 rfl (lv_at hl 0 rfl) ?_
      refine va_get (D := (dC, dI)) (ci := 0) (v := .int (((tw_sf u5 6 0)).1 6)) (C := RX5) (T := TX5) (N := 28) hx hb hts in_X5 hown hK hP 0 tw_g rfl 6 (by decide) (hts _ q1992) (fun _ h9 => h9) rfl dX5_cell_26 ?_
      refine lv_if_le (tgt := 36) hx hb dX5_cell_29 (by decide) (fun c9 => ?_) (fun c9 => ?_)
      · replace hF := it_t c9 hF
        refine lv_aload_n hx hb dX5_cell_36 rfl (lv_at hl 0 rfl) ?_
        refine lv_iload_n hx hb dX5_cell_37 rfl (lv_at hl 1 rfl) ?_
        refine lv_iload_n hx hb dX5_cell_38 rfl (lv_at hl 2 rfl) ?_
        obtain ⟨r10, u10, e10, hF⟩ := bnd_s hF
        refine tw_calli (va_runV (As := [.int p1, .int p2]) (rest := []) ⟨hx, hb, hml, hown, hts⟩ (mt_cellOf l dC dI cI cZ m0 ad H.size (tw_sf u5 6 0)  p1 p2 _ e10) (cwV 2 hts (lw_V q2181 q2183 qs59 q125 q2184) rfl rfl rfl (by decide +kernel) ⟨Nat.le_of_ble_eq_true rfl, Nat.le_of_ble_eq_true rfl⟩) (tw_preV hK hP hD _) rfl rfl hl.1 rfl (lv_room (Nat.le_of_ble_eq_true rfl)) dX5_cell_39 ⟨Nat.le_of_ble_eq_true rfl, Nat.le_of_ble_eq_true rfl⟩) hS hD hAA (fun rr uu H locs hw hP hD hS => ?_)
        obtain rfl : r10 = rr := (congrArg Prod.fst hw).symm
        obtain rfl : u10 = uu := (congrArg Prod.snd hw).symm
        exact W.iret (v := r10) hx hb hr (fun t ht hW => ⟨⟨r10, u10, rfl, Option.some.inj hF, by rw [ht]; exact hP, va_K.moved hW.alike hK⟩, hS.F ht⟩) hS.2.2 dX5_cell_42
      · replace hF := it_f c9 hF
        refine lv_iconst (v := 0) hx hb dX5_cell_32 (by decide) ?_
        refine lv_goto (tgt := 42) hx hb dX5_cell_33 (by decide) ?_
        exact W.iret (v := 0) hx hb hr (fun t ht hW => ⟨⟨0, (tw_sf u5 6 0), rfl, Option.some.inj hF, by rw [ht]; exact hP, va_K.moved hW.alike hK⟩, hS.F ht⟩) hS.2.2 dX5_cell_42

def F_start (σ : Tw) (p1 : Int32) : Option (Int32 × Tw) := bnd (F_isPlace σ p1) (fun r1 u1 => if r1 = 0 then if (((tw_sf u1 6 1)).1 6) ≤ 0 then gd (inB (73 + p1) 162) (some ((((tw_sf u1 6 1)).2 0 ((73 + p1)).toNatClampNeg), (tw_sf u1 6 1))) else some (0, (tw_sf u1 6 1)) else if (((tw_sf u1 6 0)).1 6) ≤ 0 then gd (inB (73 + p1) 162) (some ((((tw_sf u1 6 0)).2 0 ((73 + p1)).toNatClampNeg), (tw_sf u1 6 0))) else some (0, (tw_sf u1 6 0)))
set_option maxHeartbeats 4000000 in
set_option maxRecDepth 100000 in
theorem mt_start (l : Launch) (dC : Nat → ClassId) (dI : Nat → Nat → Nat) (cI cZ : ClassId) (m0 : Nat) (ad : Nat → Nat) (sz : Nat) (σ : Tw)  (p1 : Int32) (out : Int32 × Tw) (hF : F_start σ p1 = some out) : Met l yX5_start (ws_ yX5_start cX5_start 2 (some .int)) ({ frames := 2, cells := 0, slots := 0, locals := 43 }) (va_Pc [.ref m0, .int p1] (tw_Pre dC dI cI cZ m0 ad sz σ)) (va_Qi (fun r u => (r, u) = out) (tw_B dC dI cI cZ m0 ad) (tw_A m0 ad sz)) 0 0 (tw_A m0 ad sz) := by
  refine Met.ofW (cc := cX5_start) (maxL := 2) (ret := (some .int)) (by decide +kernel) rfl ?_
  intro p e s m args below meth c s₁ B hml hv
  obtain ⟨rfl, hsz, hP, hK, hD0⟩ := hv
  have hx := B.exec
  have hb := B.bytes
  have hr := B.returns
  have hts := atoms_spec (ws := (ws_ yX5_start cX5_start 2 (some .int))) B.pre
  have hts : ∀ w ∈ lw_all, w.before _ s = true := fun w h => hts w (List.mem_cons_of_mem _ h)
  have hown : s.vm.findClass RX5 = some m.cls := findClass_of_methodNamed B.named
  have hlocks := B.notSynchronized
  subst hsz
  have hD := tw_Ds (z := s.heap.size) hD0
  have hAA := fun z (h : s.heap.size ≤ z) => tw_Am (m0 := m0) (ad := ad) h
  generalize hAe : tw_A m0 ad s.heap.size = A at hD hAA ⊢
  have hS : va_S A s.heap s.heap [] := va_S.rf
  have hP : va_P (dC, dI) vwCl (tw_ws m0 ad cI cZ σ) s.heap := hP
  have hl := lv_entry ([.ref m0, .int p1]) (n := 2) (Nat.le_of_ble_eq_true rfl)
  rw [lg_entry_eq]
  generalize (lg_sl ([.ref m0, .int p1]) ++ List.replicate (2 - (lg_sl ([.ref m0, .int p1])).length) Slot.unset).toArray = ls at hl ⊢
  have hl : lv_has ls 2 [(0, .ref m0), (1, .int p1)] := hl
  unfold F_start at hF
  refine lv_aload_n hx hb dX5_start_0 rfl (lv_at hl 0 rfl) ?_
  refine lv_aload_n hx hb dX5_start_1 rfl (lv_at hl 0 rfl) ?_
  refine lv_iload_n hx hb dX5_start_2 rfl (lv_at hl 1 rfl) ?_
  obtain ⟨r1, u1, e1, hF⟩ := bnd_s hF
  refine tw_calli (va_runV (As := [.int p1]) (rest := [.ref m0]) ⟨hx, hb, hml, hown, hts⟩ (mt_isPlace l dC dI cI cZ m0 ad s.heap.size σ  p1 _ e1) (cwV 1 hts (lw_V q2177 q2179 qs58 q125 q2180) rfl rfl rfl (by decide +kernel) ⟨Nat.le_of_ble_eq_true rfl, Nat.le_of_ble_eq_true rfl⟩) (tw_preV hK hP hD _) rfl rfl hl.1 rfl (lv_room (Nat.le_of_ble_eq_true rfl)) dX5_start_3 ⟨Nat.le_of_ble_eq_true rfl, Nat.le_of_ble_eq_true rfl⟩) hS hD hAA (fun rr uu H locs hw hP hD hS => ?_)
  obtain rfl : r1 = rr := (congrArg Prod.fst hw).symm
  obtain rfl : u1 = uu := (congrArg Prod.snd hw).symm
  refine lv_if_eq (tgt := 13) hx hb dX5_start_6 (by decide) (fun c2 => ?_) (fun c2 => ?_)
  · replace hF := it_t c2 hF
    refine lv_iconst (v := 1) hx hb dX5_start_13 (by decide) ?_
    refine va_put (D := (dC, dI)) (ci := 0) (v := .int 1) (ty := .int) (C := RX5) (T := TX5) (N := 28) hx hb hts in_X5 tyX5 tyX5_ok nmX5 hown hK hP hD hS 0 tw_g rfl 6 (by decide) (hts _ q1992) (fun _ h9 => h9) rfl (tyX5_ok 6 (by decide)) rfl rfl (Nat.le_of_ble_eq_true rfl) dX5_start_14 (fun H locs hP hD hS => ?_)
    rw [tw_p6] at hP hD
    refine lv_aload_n hx hb dX5_start_17 rfl (lv_at hl 0 rfl) ?_
    refine va_get (D := (dC, dI)) (ci := 0) (v := .int (((tw_sf u1 6 1)).1 6)) (C := RX5) (T := TX5) (N := 28) hx hb hts in_X5 hown hK hP 0 tw_g rfl 6 (by decide) (hts _ q1992) (fun _ h9 => h9) rfl dX5_start_18 ?_
    refine lv_if_le (tgt := 28) hx hb dX5_start_21 (by decide) (fun c3 => ?_) (fun c3 => ?_)
    · replace hF := it_t c3 hF
      refine lv_aload_n hx hb dX5_start_28 rfl (lv_at hl 0 rfl) ?_
      refine va_get (D := (dC, dI)) (ci := 0) (v := .ref (ad 0)) (C := RX5) (T := TX5) (N := 28) hx hb hts in_X5 hown hK hP 0 tw_g rfl 0 (by decide) (hts _ q1986) (fun _ h9 => h9) rfl dX5_start_29 ?_
      refine lv_bipush (v := 73) hx hb dX5_start_32 (by decide) ?_
      refine lv_iload_n hx hb dX5_start_34 rfl (lv_at hl 1 rfl) ?_
      refine lv_iadd hx hb dX5_start_35 ?_
      obtain ⟨g4, hF⟩ := gd_s hF
      refine va_iald hx hb hK hP 1 0 tw_e0 rfl (inB_in g4) dX5_start_36 ?_
      exact W.iret (v := (((tw_sf u1 6 1)).2 0 ((73 + p1)).toNatClampNeg)) hx hb hr (fun t ht hW => ⟨⟨(((tw_sf u1 6 1)).2 0 ((73 + p1)).toNatClampNeg), (tw_sf u1 6 1), rfl, Option.some.inj hF, by rw [ht]; exact hP, va_K.moved hW.alike hK⟩, hS.F ht⟩) hS.2.2 dX5_start_37
    · replace hF := it_f c3 hF
      refine lv_iconst (v := 0) hx hb dX5_start_24 (by decide) ?_
      refine lv_goto (tgt := 37) hx hb dX5_start_25 (by decide) ?_
      exact W.iret (v := 0) hx hb hr (fun t ht hW => ⟨⟨0, (tw_sf u1 6 1), rfl, Option.some.inj hF, by rw [ht]; exact hP, va_K.moved hW.alike hK⟩, hS.F ht⟩) hS.2.2 dX5_start_37
  · replace hF := it_f c2 hF
    refine lv_iconst (v := 0) hx hb dX5_start_9 (by decide) ?_
    refine lv_goto (tgt := 14) hx hb dX5_start_10 (by decide) ?_
    refine va_put (D := (dC, dI)) (ci := 0) (v := .int 0) (ty := .int) (C := RX5) (T := TX5) (N := 28) hx hb hts in_X5 tyX5 tyX5_ok nmX5 hown hK hP hD hS 0 tw_g rfl 6 (by decide) (hts _ q1992) (fun _ h9 => h9) rfl (tyX5_ok 6 (by decide)) rfl rfl (Nat.le_of_ble_eq_true rfl) dX5_start_14 (fun H locs hP hD hS => ?_)
    rw [tw_p6] at hP hD
    refine lv_aload_n hx hb dX5_start_17 rfl (lv_at hl 0 rfl) ?_
    refine va_get (D := (dC, dI)) (ci := 0) (v := .int (((tw_sf u1 6 0)).1 6)) (C := RX5) (T := TX5) (N := 28) hx hb hts in_X5 hown hK hP 0 tw_g rfl 6 (by decide) (hts _ q1992) (fun _ h9 => h9) rfl dX5_start_18 ?_
    refine lv_if_le (tgt := 28) hx hb dX5_start_21 (by decide) (fun c5 => ?_) (fun c5 => ?_)
    · replace hF := it_t c5 hF
      refine lv_aload_n hx hb dX5_start_28 rfl (lv_at hl 0 rfl) ?_
      refine va_get (D := (dC, dI)) (ci := 0) (v := .ref (ad 0)) (C := RX5) (T := TX5) (N := 28) hx hb hts in_X5 hown hK hP 0 tw_g rfl 0 (by decide) (hts _ q1986) (fun _ h9 => h9) rfl dX5_start_29 ?_
      refine lv_bipush (v := 73) hx hb dX5_start_32 (by decide) ?_
      refine lv_iload_n hx hb dX5_start_34 rfl (lv_at hl 1 rfl) ?_
      refine lv_iadd hx hb dX5_start_35 ?_
      obtain ⟨g6, hF⟩ := gd_s hF
      refine va_iald hx hb hK hP 1 0 tw_e0 rfl (inB_in g6) dX5_start_36 ?_
      exact W.iret (v := (((tw_sf u1 6 0)).2 0 ((73 + p1)).toNatClampNeg)) hx hb hr (fun t ht hW => ⟨⟨(((tw_sf u1 6 0)).2 0 ((73 + p1)).toNatClampNeg), (tw_sf u1 6 0), rfl, Option.some.inj hF, by rw [ht]; exact hP, va_K.moved hW.alike hK⟩, hS.F ht⟩) hS.2.2 dX5_start_37
    · replace hF := it_f c5 hF
      refine lv_iconst (v := 0) hx hb dX5_start_24 (by decide) ?_
      refine lv_goto (tgt := 37) hx hb dX5_start_25 (by decide) ?_
      exact W.iret (v := 0) hx hb hr (fun t ht hW => ⟨⟨0, (tw_sf u1 6 0), rfl, Option.some.inj hF, by rw [ht]; exact hP, va_K.moved hW.alike hK⟩, hS.F ht⟩) hS.2.2 dX5_start_37

def F_resets_1 (R : Nat → Tw → Int32 → Option (Int32 × Tw)) (n : Nat) (σ : Tw) (x1 : Int32) : Option (Int32 × Tw) := if 8 < x1 then R 2 σ 81 else gd (inB x1 162) (R 1 (tw_sa σ 0 (x1).toNatClampNeg 0) (x1 + 1))
def F_resets_2 (R : Nat → Tw → Int32 → Option (Int32 × Tw)) (n : Nat) (σ : Tw) (x1 : Int32) : Option (Int32 × Tw) := if 162 ≤ x1 then some (0, σ) else gd (inB x1 162) (R 2 (tw_sa σ 0 (x1).toNatClampNeg 0) (x1 + 1))
def F_resets_r : Nat → Nat → Tw → Int32 → Option (Int32 × Tw)
  | 0 => fun _ _ _ => none
  | n + 1 => fun k => match k with | 1 => F_resets_1 (F_resets_r n) n | _ => F_resets_2 (F_resets_r n) n
def F_resets_0 (R : Nat → Tw → Int32 → Option (Int32 × Tw)) (n : Nat) (σ : Tw) : Option (Int32 × Tw) := R 1 σ 5
def F_resets (n : Nat) (σ : Tw) : Option (Int32 × Tw) := F_resets_0 (F_resets_r n) n σ 
set_option maxHeartbeats 4000000 in
set_option maxRecDepth 100000 in
theorem mt_resets (l : Launch) (dC : Nat → ClassId) (dI : Nat → Nat → Nat) (cI cZ : ClassId) (m0 : Nat) (ad : Nat → Nat) (sz : Nat) (σ : Tw) (n : Nat)  (out : Int32 × Tw) (hF : F_resets n σ  = some out) : Met l yX5_resets (ws_ yX5_resets cX5_resets 2 none) ({ frames := 0, cells := 0, slots := 0, locals := 0 }) (va_Pc [.ref m0] (tw_Pre dC dI cI cZ m0 ad sz σ)) (va_Qv (fun u => (0, u) = out) (tw_B dC dI cI cZ m0 ad) (tw_A m0 ad sz)) 0 0 (tw_A m0 ad sz) := by
  refine Met.ofW (cc := cX5_resets) (maxL := 2) (ret := none) (by decide +kernel) rfl ?_
  intro p e s m args below meth c s₁ B hml hv
  obtain ⟨rfl, hsz, hP, hK, hD0⟩ := hv
  have hx := B.exec
  have hb := B.bytes
  have hr := B.returns
  have hts := atoms_spec (ws := (ws_ yX5_resets cX5_resets 2 none)) B.pre
  have hts : ∀ w ∈ lw_all, w.before _ s = true := fun w h => hts w (List.mem_cons_of_mem _ h)
  have hown : s.vm.findClass RX5 = some m.cls := findClass_of_methodNamed B.named
  have hlocks := B.notSynchronized
  subst hsz
  have hD := tw_Ds (z := s.heap.size) hD0
  have hAA := fun z (h : s.heap.size ≤ z) => tw_Am (m0 := m0) (ad := ad) h
  generalize hAe : tw_A m0 ad s.heap.size = A at hD hAA ⊢
  have hS : va_S A s.heap s.heap [] := va_S.rf
  have hP : va_P (dC, dI) vwCl (tw_ws m0 ad cI cZ σ) s.heap := hP
  have hl := lv_entry ([.ref m0]) (n := 2) (Nat.le_of_ble_eq_true rfl)
  rw [lg_entry_eq]
  generalize (lg_sl ([.ref m0]) ++ List.replicate (2 - (lg_sl ([.ref m0])).length) Slot.unset).toArray = ls at hl ⊢
  have hl : lv_has ls 2 [(0, .ref m0)] := hl
  have loop : ∀ n : Nat, (∀ (σ : Tw) (x1 : Int32), F_resets_r n 1 σ x1 = some out → ∀ (H : Heap) (locs : List Loc), va_P (dC, dI) vwCl (tw_ws m0 ad cI cZ σ) H → va_D A (tw_ws m0 ad cI cZ σ) → va_S A s.heap H locs → ∀ ls : Array Slot, lv_has ls 2 [(0, .ref m0), (1, .int x1)] → W p l e (headSpec (ws_ yX5_resets cX5_resets 2 none) ({ frames := 0, cells := 0, slots := 0, locals := 0 })).room s m ([.ref m0] : List Value).toArray below meth c H locs 0 0 (MQ below (va_Qv (fun u => (0, u) = out) (tw_B dC dI cI cZ m0 ad) A) ([.ref m0] : List Value).toArray s 0 0 A) (F0 m 2 ls [])) ∧ (∀ (σ : Tw) (x1 : Int32), F_resets_r n 2 σ x1 = some out → ∀ (H : Heap) (locs : List Loc), va_P (dC, dI) vwCl (tw_ws m0 ad cI cZ σ) H → va_D A (tw_ws m0 ad cI cZ σ) → va_S A s.heap H locs → ∀ ls : Array Slot, lv_has ls 2 [(0, .ref m0), (1, .int x1)] → W p l e (headSpec (ws_ yX5_resets cX5_resets 2 none) ({ frames := 0, cells := 0, slots := 0, locals := 0 })).room s m ([.ref m0] : List Value).toArray below meth c H locs 0 0 (MQ below (va_Qv (fun u => (0, u) = out) (tw_B dC dI cI cZ m0 ad) A) ([.ref m0] : List Value).toArray s 0 0 A) (F0 m 24 ls [])) := by
    intro n
    induction n with
    | zero => exact ⟨(fun _ _ h => nomatch h), (fun _ _ h => nomatch h)⟩
    | succ n ih =>
      obtain ⟨lp1, lp2⟩ := ih
      refine ⟨?_, ?_⟩
      · intro σ x1 hF H locs hP hD hS ls hl
        replace hF : F_resets_1 (F_resets_r n) n σ x1 = some out := hF
        unfold F_resets_1 at hF
        refine lv_iload_n hx hb dX5_resets_2 rfl (lv_at hl 1 rfl) ?_
        refine lv_bipush (v := 8) hx hb dX5_resets_3 (by decide) ?_
        refine lv_icmp_gt (tgt := 21) hx hb dX5_resets_5 (by decide) (fun c1 => ?_) (fun c1 => ?_)
        · replace hF := it_t c1 hF
          refine lv_bipush (v := 81) hx hb dX5_resets_21 (by decide) ?_
          refine lv_istore_n (lv' := [(1, .int 81), (0, .ref m0)]) hx hb dX5_resets_23 rfl hl (by decide) rfl (fun ls hl => ?_)
          exact lp2 σ 81 hF _ _ hP hD hS ls (lv_sub hl [1, 0] rfl)
        · replace hF := it_f c1 hF
          refine lv_aload_n hx hb dX5_resets_8 rfl (lv_at hl 0 rfl) ?_
          refine va_get (D := (dC, dI)) (ci := 0) (v := .ref (ad 0)) (C := RX5) (T := TX5) (N := 28) hx hb hts in_X5 hown hK hP 0 tw_g rfl 0 (by decide) (hts _ q1986) (fun _ h9 => h9) rfl dX5_resets_9 ?_
          refine lv_iload_n hx hb dX5_resets_12 rfl (lv_at hl 1 rfl) ?_
          refine lv_iconst (v := 0) hx hb dX5_resets_13 (by decide) ?_
          obtain ⟨g2, hF⟩ := gd_s hF
          refine va_iast hx hb hK hP hD hS 1 0 tw_e0 rfl (x := 0) (inB_in g2) dX5_resets_14 (fun H locs hP hD hS => ?_)
          rw [tw_s0] at hP hD
          refine lv_iinc (v := (x1 + 1)) (lv' := [(1, .int (x1 + 1)), (0, .ref m0)]) hx hb dX5_resets_15 hl (k := 1) rfl rfl (by decide) rfl (fun ls hl => ?_)
          refine lv_goto (tgt := 2) hx hb dX5_resets_18 (by decide) ?_
          exact lp1 (tw_sa σ 0 (x1).toNatClampNeg 0) (x1 + 1) hF _ _ hP hD hS ls (lv_sub hl [1, 0] rfl)
      · intro σ x1 hF H locs hP hD hS ls hl
        replace hF : F_resets_2 (F_resets_r n) n σ x1 = some out := hF
        unfold F_resets_2 at hF
        refine lv_iload_n hx hb dX5_resets_24 rfl (lv_at hl 1 rfl) ?_
        refine lv_sipush (v := 162) hx hb dX5_resets_25 (by decide) ?_
        refine lv_icmp_ge (tgt := 44) hx hb dX5_resets_28 (by decide) (fun c3 => ?_) (fun c3 => ?_)
        · replace hF := it_t c3 hF
          exact W.vret hx hb hr (fun t ht hW => ⟨⟨σ, rfl, Option.some.inj hF, by rw [ht]; exact hP, va_K.moved hW.alike hK⟩, hS.F ht⟩) hS.2.2 dX5_resets_44
        · replace hF := it_f c3 hF
          refine lv_aload_n hx hb dX5_resets_31 rfl (lv_at hl 0 rfl) ?_
          refine va_get (D := (dC, dI)) (ci := 0) (v := .ref (ad 0)) (C := RX5) (T := TX5) (N := 28) hx hb hts in_X5 hown hK hP 0 tw_g rfl 0 (by decide) (hts _ q1986) (fun _ h9 => h9) rfl dX5_resets_32 ?_
          refine lv_iload_n hx hb dX5_resets_35 rfl (lv_at hl 1 rfl) ?_
          refine lv_iconst (v := 0) hx hb dX5_resets_36 (by decide) ?_
          obtain ⟨g4, hF⟩ := gd_s hF
          refine va_iast hx hb hK hP hD hS 1 0 tw_e0 rfl (x := 0) (inB_in g4) dX5_resets_37 (fun H locs hP hD hS => ?_)
          rw [tw_s0] at hP hD
          refine lv_iinc (v := (x1 + 1)) (lv' := [(1, .int (x1 + 1)), (0, .ref m0)]) hx hb dX5_resets_38 hl (k := 1) rfl rfl (by decide) rfl (fun ls hl => ?_)
          refine lv_goto (tgt := 24) hx hb dX5_resets_41 (by decide) ?_
          exact lp2 (tw_sa σ 0 (x1).toNatClampNeg 0) (x1 + 1) hF _ _ hP hD hS ls (lv_sub hl [1, 0] rfl)
  obtain ⟨lp1, lp2⟩ := loop n
  unfold F_resets F_resets_0 at hF
  refine lv_iconst (v := 5) hx hb dX5_resets_0 (by decide) ?_
  refine lv_istore_n (lv' := [(1, .int 5), (0, .ref m0)]) hx hb dX5_resets_1 rfl hl (by decide) rfl (fun ls hl => ?_)
  exact lp1 σ 5 hF _ _ hP hD hS ls (lv_sub hl [1, 0] rfl)

def F_setCell (n : Nat) (σ : Tw) (p1 : Int32) (p2 : Int32) (p3 : Int32) : Option (Int32 × Tw) := bnd (F_isPlace σ p1) (fun r1 u1 => if r1 = 0 then if (((tw_sf u1 6 1)).1 6) ≤ 0 then bnd (F_keeps n (tw_sf u1 6 1) ) (fun r4 u4 => bnd (F_cellOf u4 p1 p2) (fun r5 u5 => gd (inB ((9 + (8 * p1)) + p2) 162) (gd (inB ((9 + (8 * p2)) + p1) 162) (bnd (F_resets n (tw_sa (tw_sa u5 0 (((9 + (8 * p1)) + p2)).toNatClampNeg p3) 0 (((9 + (8 * p2)) + p1)).toNatClampNeg p3) ) (fun r8 u8 => some (r5, u8)))))) else some (0, (tw_sf u1 6 1)) else bnd (F_isPlace u1 p2) (fun r9 u9 => if r9 = 0 then if (((tw_sf u9 6 1)).1 6) ≤ 0 then bnd (F_keeps n (tw_sf u9 6 1) ) (fun r26 u26 => bnd (F_cellOf u26 p1 p2) (fun r27 u27 => gd (inB ((9 + (8 * p1)) + p2) 162) (gd (inB ((9 + (8 * p2)) + p1) 162) (bnd (F_resets n (tw_sa (tw_sa u27 0 (((9 + (8 * p1)) + p2)).toNatClampNeg p3) 0 (((9 + (8 * p2)) + p1)).toNatClampNeg p3) ) (fun r30 u30 => some (r27, u30)))))) else some (0, (tw_sf u9 6 1)) else bnd (F_isNumber u9 p3) (fun r11 u11 => if r11 = 0 then if (((tw_sf u11 6 2)).1 6) ≤ 0 then bnd (F_keeps n (tw_sf u11 6 2) ) (fun r14 u14 => bnd (F_cellOf u14 p1 p2) (fun r15 u15 => gd (inB ((9 + (8 * p1)) + p2) 162) (gd (inB ((9 + (8 * p2)) + p1) 162) (bnd (F_resets n (tw_sa (tw_sa u15 0 (((9 + (8 * p1)) + p2)).toNatClampNeg p3) 0 (((9 + (8 * p2)) + p1)).toNatClampNeg p3) ) (fun r18 u18 => some (r15, u18)))))) else some (0, (tw_sf u11 6 2)) else if (((tw_sf u11 6 0)).1 6) ≤ 0 then bnd (F_keeps n (tw_sf u11 6 0) ) (fun r20 u20 => bnd (F_cellOf u20 p1 p2) (fun r21 u21 => gd (inB ((9 + (8 * p1)) + p2) 162) (gd (inB ((9 + (8 * p2)) + p1) 162) (bnd (F_resets n (tw_sa (tw_sa u21 0 (((9 + (8 * p1)) + p2)).toNatClampNeg p3) 0 (((9 + (8 * p2)) + p1)).toNatClampNeg p3) ) (fun r24 u24 => some (r21, u24)))))) else some (0, (tw_sf u11 6 0)))))
set_option maxHeartbeats 4000000 in
set_option maxRecDepth 100000 in
theorem mt_setCell (l : Launch) (dC : Nat → ClassId) (dI : Nat → Nat → Nat) (cI cZ : ClassId) (m0 : Nat) (ad : Nat → Nat) (sz : Nat) (σ : Tw) (n : Nat)  (p1 : Int32) (p2 : Int32) (p3 : Int32) (out : Int32 × Tw) (hF : F_setCell n σ p1 p2 p3 = some out) : Met l yX5_setCell (ws_ yX5_setCell cX5_setCell 5 (some .int)) ({ frames := 2, cells := 0, slots := 0, locals := 43 }) (va_Pc [.ref m0, .int p1, .int p2, .int p3] (tw_Pre dC dI cI cZ m0 ad sz σ)) (va_Qi (fun r u => (r, u) = out) (tw_B dC dI cI cZ m0 ad) (tw_A m0 ad sz)) 0 0 (tw_A m0 ad sz) := by
  refine Met.ofW (cc := cX5_setCell) (maxL := 5) (ret := (some .int)) (by decide +kernel) rfl ?_
  intro p e s m args below meth c s₁ B hml hv
  obtain ⟨rfl, hsz, hP, hK, hD0⟩ := hv
  have hx := B.exec
  have hb := B.bytes
  have hr := B.returns
  have hts := atoms_spec (ws := (ws_ yX5_setCell cX5_setCell 5 (some .int))) B.pre
  have hts : ∀ w ∈ lw_all, w.before _ s = true := fun w h => hts w (List.mem_cons_of_mem _ h)
  have hown : s.vm.findClass RX5 = some m.cls := findClass_of_methodNamed B.named
  have hlocks := B.notSynchronized
  subst hsz
  have hD := tw_Ds (z := s.heap.size) hD0
  have hAA := fun z (h : s.heap.size ≤ z) => tw_Am (m0 := m0) (ad := ad) h
  generalize hAe : tw_A m0 ad s.heap.size = A at hD hAA ⊢
  have hS : va_S A s.heap s.heap [] := va_S.rf
  have hP : va_P (dC, dI) vwCl (tw_ws m0 ad cI cZ σ) s.heap := hP
  have hl := lv_entry ([.ref m0, .int p1, .int p2, .int p3]) (n := 5) (Nat.le_of_ble_eq_true rfl)
  rw [lg_entry_eq]
  generalize (lg_sl ([.ref m0, .int p1, .int p2, .int p3]) ++ List.replicate (5 - (lg_sl ([.ref m0, .int p1, .int p2, .int p3])).length) Slot.unset).toArray = ls at hl ⊢
  have hl : lv_has ls 5 [(0, .ref m0), (1, .int p1), (2, .int p2), (3, .int p3)] := hl
  unfold F_setCell at hF
  refine lv_aload_n hx hb dX5_setCell_0 rfl (lv_at hl 0 rfl) ?_
  refine lv_aload_n hx hb dX5_setCell_1 rfl (lv_at hl 0 rfl) ?_
  refine lv_iload_n hx hb dX5_setCell_2 rfl (lv_at hl 1 rfl) ?_
  obtain ⟨r1, u1, e1, hF⟩ := bnd_s hF
  refine tw_calli (va_runV (As := [.int p1]) (rest := [.ref m0]) ⟨hx, hb, hml, hown, hts⟩ (mt_isPlace l dC dI cI cZ m0 ad s.heap.size σ  p1 _ e1) (cwV 1 hts (lw_V q2177 q2179 qs58 q125 q2180) rfl rfl rfl (by decide +kernel) ⟨Nat.le_of_ble_eq_true rfl, Nat.le_of_ble_eq_true rfl⟩) (tw_preV hK hP hD _) rfl rfl hl.1 rfl (lv_room (Nat.le_of_ble_eq_true rfl)) dX5_setCell_3 ⟨Nat.le_of_ble_eq_true rfl, Nat.le_of_ble_eq_true rfl⟩) hS hD hAA (fun rr uu H locs hw hP hD hS => ?_)
  obtain rfl : r1 = rr := (congrArg Prod.fst hw).symm
  obtain rfl : u1 = uu := (congrArg Prod.snd hw).symm
  refine lv_if_eq (tgt := 17) hx hb dX5_setCell_6 (by decide) (fun c2 => ?_) (fun c2 => ?_)
  · replace hF := it_t c2 hF
    refine lv_iconst (v := 1) hx hb dX5_setCell_17 (by decide) ?_
    refine lv_goto (tgt := 34) hx hb dX5_setCell_18 (by decide) ?_
    refine va_put (D := (dC, dI)) (ci := 0) (v := .int 1) (ty := .int) (C := RX5) (T := TX5) (N := 28) hx hb hts in_X5 tyX5 tyX5_ok nmX5 hown hK hP hD hS 0 tw_g rfl 6 (by decide) (hts _ q1992) (fun _ h9 => h9) rfl (tyX5_ok 6 (by decide)) rfl rfl (Nat.le_of_ble_eq_true rfl) dX5_setCell_34 (fun H locs hP hD hS => ?_)
    rw [tw_p6] at hP hD
    refine lv_aload_n hx hb dX5_setCell_37 rfl (lv_at hl 0 rfl) ?_
    refine va_get (D := (dC, dI)) (ci := 0) (v := .int (((tw_sf u1 6 1)).1 6)) (C := RX5) (T := TX5) (N := 28) hx hb hts in_X5 hown hK hP 0 tw_g rfl 6 (by decide) (hts _ q1992) (fun _ h9 => h9) rfl dX5_setCell_38 ?_
    refine lv_if_le (tgt := 46) hx hb dX5_setCell_41 (by decide) (fun c3 => ?_) (fun c3 => ?_)
    · replace hF := it_t c3 hF
      refine lv_aload_n hx hb dX5_setCell_46 rfl (lv_at hl 0 rfl) ?_
      obtain ⟨r4, u4, e4, hF⟩ := bnd_s hF
      refine tw_callv (va_runV (As := []) (rest := []) ⟨hx, hb, hml, hown, hts⟩ (mt_keeps l dC dI cI cZ m0 ad H.size (tw_sf u1 6 1) n   _ e4) (cwV 0 hts (lw_V q2091 q2093 qs46 q125 q2094) rfl rfl rfl (by decide +kernel) ⟨Nat.le_of_ble_eq_true rfl, Nat.le_of_ble_eq_true rfl⟩) (tw_preV hK hP hD _) rfl rfl hl.1 rfl (lv_room (Nat.le_of_ble_eq_true rfl)) dX5_setCell_47 ⟨Nat.le_of_ble_eq_true rfl, Nat.le_of_ble_eq_true rfl⟩) hS hD hAA (fun uu H locs hw hP hD hS => ?_)
      obtain rfl : u4 = uu := (congrArg Prod.snd hw).symm
      refine lv_aload_n hx hb dX5_setCell_50 rfl (lv_at hl 0 rfl) ?_
      refine lv_iload_n hx hb dX5_setCell_51 rfl (lv_at hl 1 rfl) ?_
      refine lv_iload_n hx hb dX5_setCell_52 rfl (lv_at hl 2 rfl) ?_
      obtain ⟨r5, u5, e5, hF⟩ := bnd_s hF
      refine tw_calli (va_runV (As := [.int p1, .int p2]) (rest := []) ⟨hx, hb, hml, hown, hts⟩ (mt_cellOf l dC dI cI cZ m0 ad H.size u4  p1 p2 _ e5) (cwV 2 hts (lw_V q2181 q2183 qs59 q125 q2184) rfl rfl rfl (by decide +kernel) ⟨Nat.le_of_ble_eq_true rfl, Nat.le_of_ble_eq_true rfl⟩) (tw_preV hK hP hD _) rfl rfl hl.1 rfl (lv_room (Nat.le_of_ble_eq_true rfl)) dX5_setCell_53 ⟨Nat.le_of_ble_eq_true rfl, Nat.le_of_ble_eq_true rfl⟩) hS hD hAA (fun rr uu H locs hw hP hD hS => ?_)
      obtain rfl : r5 = rr := (congrArg Prod.fst hw).symm
      obtain rfl : u5 = uu := (congrArg Prod.snd hw).symm
      refine lv_istore (lv' := [(4, .int r5), (0, .ref m0), (1, .int p1), (2, .int p2), (3, .int p3)]) hx hb dX5_setCell_56 hl (by decide) rfl (fun ls hl => ?_)
      refine lv_aload_n hx hb dX5_setCell_58 rfl (lv_at hl 1 rfl) ?_
      refine va_get (D := (dC, dI)) (ci := 0) (v := .ref (ad 0)) (C := RX5) (T := TX5) (N := 28) hx hb hts in_X5 hown hK hP 0 tw_g rfl 0 (by decide) (hts _ q1986) (fun _ h9 => h9) rfl dX5_setCell_59 ?_
      refine lv_bipush (v := 9) hx hb dX5_setCell_62 (by decide) ?_
      refine lv_bipush (v := 8) hx hb dX5_setCell_64 (by decide) ?_
      refine lv_iload_n hx hb dX5_setCell_66 rfl (lv_at hl 2 rfl) ?_
      refine lv_imul hx hb dX5_setCell_67 ?_
      refine lv_iadd hx hb dX5_setCell_68 ?_
      refine lv_iload_n hx hb dX5_setCell_69 rfl (lv_at hl 3 rfl) ?_
      refine lv_iadd hx hb dX5_setCell_70 ?_
      refine lv_iload_n hx hb dX5_setCell_71 rfl (lv_at hl 4 rfl) ?_
      obtain ⟨g6, hF⟩ := gd_s hF
      refine va_iast hx hb hK hP hD hS 1 0 tw_e0 rfl (x := p3) (inB_in g6) dX5_setCell_72 (fun H locs hP hD hS => ?_)
      rw [tw_s0] at hP hD
      refine lv_aload_n hx hb dX5_setCell_73 rfl (lv_at hl 1 rfl) ?_
      refine va_get (D := (dC, dI)) (ci := 0) (v := .ref (ad 0)) (C := RX5) (T := TX5) (N := 28) hx hb hts in_X5 hown hK hP 0 tw_g rfl 0 (by decide) (hts _ q1986) (fun _ h9 => h9) rfl dX5_setCell_74 ?_
      refine lv_bipush (v := 9) hx hb dX5_setCell_77 (by decide) ?_
      refine lv_bipush (v := 8) hx hb dX5_setCell_79 (by decide) ?_
      refine lv_iload_n hx hb dX5_setCell_81 rfl (lv_at hl 3 rfl) ?_
      refine lv_imul hx hb dX5_setCell_82 ?_
      refine lv_iadd hx hb dX5_setCell_83 ?_
      refine lv_iload_n hx hb dX5_setCell_84 rfl (lv_at hl 2 rfl) ?_
      refine lv_iadd hx hb dX5_setCell_85 ?_
      refine lv_iload_n hx hb dX5_setCell_86 rfl (lv_at hl 4 rfl) ?_
      obtain ⟨g7, hF⟩ := gd_s hF
      refine va_iast hx hb hK hP hD hS 1 0 tw_e0 rfl (x := p3) (inB_in g7) dX5_setCell_87 (fun H locs hP hD hS => ?_)
      rw [tw_s0] at hP hD
      refine lv_aload_n hx hb dX5_setCell_88 rfl (lv_at hl 1 rfl) ?_
      obtain ⟨r8, u8, e8, hF⟩ := bnd_s hF
      refine tw_callv (va_runV (As := []) (rest := []) ⟨hx, hb, hml, hown, hts⟩ (mt_resets l dC dI cI cZ m0 ad H.size (tw_sa (tw_sa u5 0 (((9 + (8 * p1)) + p2)).toNatClampNeg p3) 0 (((9 + (8 * p2)) + p1)).toNatClampNeg p3) n   _ e8) (cwV 0 hts (lw_V q2197 q2199 qs61 q125 q2200) rfl rfl rfl (by decide +kernel) ⟨Nat.le_of_ble_eq_true rfl, Nat.le_of_ble_eq_true rfl⟩) (tw_preV hK hP hD _) rfl rfl hl.1 rfl (lv_room (Nat.le_of_ble_eq_true rfl)) dX5_setCell_89 ⟨Nat.le_of_ble_eq_true rfl, Nat.le_of_ble_eq_true rfl⟩) hS hD hAA (fun uu H locs hw hP hD hS => ?_)
      obtain rfl : u8 = uu := (congrArg Prod.snd hw).symm
      refine lv_iload hx hb dX5_setCell_92 (lv_at hl 0 rfl) ?_
      exact W.iret (v := r5) hx hb hr (fun t ht hW => ⟨⟨r5, u8, rfl, Option.some.inj hF, by rw [ht]; exact hP, va_K.moved hW.alike hK⟩, hS.F ht⟩) hS.2.2 dX5_setCell_94
    · replace hF := it_f c3 hF
      refine lv_iconst (v := 0) hx hb dX5_setCell_44 (by decide) ?_
      exact W.iret (v := 0) hx hb hr (fun t ht hW => ⟨⟨0, (tw_sf u1 6 1), rfl, Option.some.inj hF, by rw [ht]; exact hP, va_K.moved hW.alike hK⟩, hS.F ht⟩) hS.2.2 dX5_setCell_45
  · replace hF := it_f c2 hF
    refine lv_aload_n hx hb dX5_setCell_9 rfl (lv_at hl 0 rfl) ?_
    refine lv_iload_n hx hb dX5_setCell_10 rfl (lv_at hl 2 rfl) ?_
    obtain ⟨r9, u9, e9, hF⟩ := bnd_s hF
    refine tw_calli (va_runV (As := [.int p2]) (rest := [.ref m0]) ⟨hx, hb, hml, hown, hts⟩ (mt_isPlace l dC dI cI cZ m0 ad H.size u1  p2 _ e9) (cwV 1 hts (lw_V q2177 q2179 qs58 q125 q2180) rfl rfl rfl (by decide +kernel) ⟨Nat.le_of_ble_eq_true rfl, Nat.le_of_ble_eq_true rfl⟩) (tw_preV hK hP hD _) rfl rfl hl.1 rfl (lv_room (Nat.le_of_ble_eq_true rfl)) dX5_setCell_11 ⟨Nat.le_of_ble_eq_true rfl, Nat.le_of_ble_eq_true rfl⟩) hS hD hAA (fun rr uu H locs hw hP hD hS => ?_)
    obtain rfl : r9 = rr := (congrArg Prod.fst hw).symm
    obtain rfl : u9 = uu := (congrArg Prod.snd hw).symm
    refine lv_if_ne (tgt := 21) hx hb dX5_setCell_14 (by decide) (fun c10 => ?_) (fun c10 => ?_)
    · replace hF := it_f c10 hF
      refine lv_aload_n hx hb dX5_setCell_21 rfl (lv_at hl 0 rfl) ?_
      refine lv_iload_n hx hb dX5_setCell_22 rfl (lv_at hl 3 rfl) ?_
      obtain ⟨r11, u11, e11, hF⟩ := bnd_s hF
      refine tw_calli (va_runV (As := [.int p3]) (rest := [.ref m0]) ⟨hx, hb, hml, hown, hts⟩ (mt_isNumber l dC dI cI cZ m0 ad H.size u9  p3 _ e11) (cwV 1 hts (lw_V q2193 q2195 qs60 q125 q2196) rfl rfl rfl (by decide +kernel) ⟨Nat.le_of_ble_eq_true rfl, Nat.le_of_ble_eq_true rfl⟩) (tw_preV hK hP hD _) rfl rfl hl.1 rfl (lv_room (Nat.le_of_ble_eq_true rfl)) dX5_setCell_23 ⟨Nat.le_of_ble_eq_true rfl, Nat.le_of_ble_eq_true rfl⟩) hS hD hAA (fun rr uu H locs hw hP hD hS => ?_)
      obtain rfl : r11 = rr := (congrArg Prod.fst hw).symm
      obtain rfl : u11 = uu := (congrArg Prod.snd hw).symm
      refine lv_if_eq (tgt := 33) hx hb dX5_setCell_26 (by decide) (fun c12 => ?_) (fun c12 => ?_)
      · replace hF := it_t c12 hF
        refine lv_iconst (v := 2) hx hb dX5_setCell_33 (by decide) ?_
        refine va_put (D := (dC, dI)) (ci := 0) (v := .int 2) (ty := .int) (C := RX5) (T := TX5) (N := 28) hx hb hts in_X5 tyX5 tyX5_ok nmX5 hown hK hP hD hS 0 tw_g rfl 6 (by decide) (hts _ q1992) (fun _ h9 => h9) rfl (tyX5_ok 6 (by decide)) rfl rfl (Nat.le_of_ble_eq_true rfl) dX5_setCell_34 (fun H locs hP hD hS => ?_)
        rw [tw_p6] at hP hD
        refine lv_aload_n hx hb dX5_setCell_37 rfl (lv_at hl 0 rfl) ?_
        refine va_get (D := (dC, dI)) (ci := 0) (v := .int (((tw_sf u11 6 2)).1 6)) (C := RX5) (T := TX5) (N := 28) hx hb hts in_X5 hown hK hP 0 tw_g rfl 6 (by decide) (hts _ q1992) (fun _ h9 => h9) rfl dX5_setCell_38 ?_
        refine lv_if_le (tgt := 46) hx hb dX5_setCell_41 (by decide) (fun c13 => ?_) (fun c13 => ?_)
        · replace hF := it_t c13 hF
          refine lv_aload_n hx hb dX5_setCell_46 rfl (lv_at hl 0 rfl) ?_
          obtain ⟨r14, u14, e14, hF⟩ := bnd_s hF
          refine tw_callv (va_runV (As := []) (rest := []) ⟨hx, hb, hml, hown, hts⟩ (mt_keeps l dC dI cI cZ m0 ad H.size (tw_sf u11 6 2) n   _ e14) (cwV 0 hts (lw_V q2091 q2093 qs46 q125 q2094) rfl rfl rfl (by decide +kernel) ⟨Nat.le_of_ble_eq_true rfl, Nat.le_of_ble_eq_true rfl⟩) (tw_preV hK hP hD _) rfl rfl hl.1 rfl (lv_room (Nat.le_of_ble_eq_true rfl)) dX5_setCell_47 ⟨Nat.le_of_ble_eq_true rfl, Nat.le_of_ble_eq_true rfl⟩) hS hD hAA (fun uu H locs hw hP hD hS => ?_)
          obtain rfl : u14 = uu := (congrArg Prod.snd hw).symm
          refine lv_aload_n hx hb dX5_setCell_50 rfl (lv_at hl 0 rfl) ?_
          refine lv_iload_n hx hb dX5_setCell_51 rfl (lv_at hl 1 rfl) ?_
          refine lv_iload_n hx hb dX5_setCell_52 rfl (lv_at hl 2 rfl) ?_
          obtain ⟨r15, u15, e15, hF⟩ := bnd_s hF
          refine tw_calli (va_runV (As := [.int p1, .int p2]) (rest := []) ⟨hx, hb, hml, hown, hts⟩ (mt_cellOf l dC dI cI cZ m0 ad H.size u14  p1 p2 _ e15) (cwV 2 hts (lw_V q2181 q2183 qs59 q125 q2184) rfl rfl rfl (by decide +kernel) ⟨Nat.le_of_ble_eq_true rfl, Nat.le_of_ble_eq_true rfl⟩) (tw_preV hK hP hD _) rfl rfl hl.1 rfl (lv_room (Nat.le_of_ble_eq_true rfl)) dX5_setCell_53 ⟨Nat.le_of_ble_eq_true rfl, Nat.le_of_ble_eq_true rfl⟩) hS hD hAA (fun rr uu H locs hw hP hD hS => ?_)
          obtain rfl : r15 = rr := (congrArg Prod.fst hw).symm
          obtain rfl : u15 = uu := (congrArg Prod.snd hw).symm
          refine lv_istore (lv' := [(4, .int r15), (0, .ref m0), (1, .int p1), (2, .int p2), (3, .int p3)]) hx hb dX5_setCell_56 hl (by decide) rfl (fun ls hl => ?_)
          refine lv_aload_n hx hb dX5_setCell_58 rfl (lv_at hl 1 rfl) ?_
          refine va_get (D := (dC, dI)) (ci := 0) (v := .ref (ad 0)) (C := RX5) (T := TX5) (N := 28) hx hb hts in_X5 hown hK hP 0 tw_g rfl 0 (by decide) (hts _ q1986) (fun _ h9 => h9) rfl dX5_setCell_59 ?_
          refine lv_bipush (v := 9) hx hb dX5_setCell_62 (by decide) ?_
          refine lv_bipush (v := 8) hx hb dX5_setCell_64 (by decide) ?_
          refine lv_iload_n hx hb dX5_setCell_66 rfl (lv_at hl 2 rfl) ?_
          refine lv_imul hx hb dX5_setCell_67 ?_
          refine lv_iadd hx hb dX5_setCell_68 ?_
          refine lv_iload_n hx hb dX5_setCell_69 rfl (lv_at hl 3 rfl) ?_
          refine lv_iadd hx hb dX5_setCell_70 ?_
          refine lv_iload_n hx hb dX5_setCell_71 rfl (lv_at hl 4 rfl) ?_
          obtain ⟨g16, hF⟩ := gd_s hF
          refine va_iast hx hb hK hP hD hS 1 0 tw_e0 rfl (x := p3) (inB_in g16) dX5_setCell_72 (fun H locs hP hD hS => ?_)
          rw [tw_s0] at hP hD
          refine lv_aload_n hx hb dX5_setCell_73 rfl (lv_at hl 1 rfl) ?_
          refine va_get (D := (dC, dI)) (ci := 0) (v := .ref (ad 0)) (C := RX5) (T := TX5) (N := 28) hx hb hts in_X5 hown hK hP 0 tw_g rfl 0 (by decide) (hts _ q1986) (fun _ h9 => h9) rfl dX5_setCell_74 ?_
          refine lv_bipush (v := 9) hx hb dX5_setCell_77 (by decide) ?_
          refine lv_bipush (v := 8) hx hb dX5_setCell_79 (by decide) ?_
          refine lv_iload_n hx hb dX5_setCell_81 rfl (lv_at hl 3 rfl) ?_
          refine lv_imul hx hb dX5_setCell_82 ?_
          refine lv_iadd hx hb dX5_setCell_83 ?_
          refine lv_iload_n hx hb dX5_setCell_84 rfl (lv_at hl 2 rfl) ?_
          refine lv_iadd hx hb dX5_setCell_85 ?_
          refine lv_iload_n hx hb dX5_setCell_86 rfl (lv_at hl 4 rfl) ?_
          obtain ⟨g17, hF⟩ := gd_s hF
          refine va_iast hx hb hK hP hD hS 1 0 tw_e0 rfl (x := p3) (inB_in g17) dX5_setCell_87 (fun H locs hP hD hS => ?_)
          rw [tw_s0] at hP hD
          refine lv_aload_n hx hb dX5_setCell_88 rfl (lv_at hl 1 rfl) ?_
          obtain ⟨r18, u18, e18, hF⟩ := bnd_s hF
          refine tw_callv (va_runV (As := []) (rest := []) ⟨hx, hb, hml, hown, hts⟩ (mt_resets l dC dI cI cZ m0 ad H.size (tw_sa (tw_sa u15 0 (((9 + (8 * p1)) + p2)).toNatClampNeg p3) 0 (((9 + (8 * p2)) + p1)).toNatClampNeg p3) n   _ e18) (cwV 0 hts (lw_V q2197 q2199 qs61 q125 q2200) rfl rfl rfl (by decide +kernel) ⟨Nat.le_of_ble_eq_true rfl, Nat.le_of_ble_eq_true rfl⟩) (tw_preV hK hP hD _) rfl rfl hl.1 rfl (lv_room (Nat.le_of_ble_eq_true rfl)) dX5_setCell_89 ⟨Nat.le_of_ble_eq_true rfl, Nat.le_of_ble_eq_true rfl⟩) hS hD hAA (fun uu H locs hw hP hD hS => ?_)
          obtain rfl : u18 = uu := (congrArg Prod.snd hw).symm
          refine lv_iload hx hb dX5_setCell_92 (lv_at hl 0 rfl) ?_
          exact W.iret (v := r15) hx hb hr (fun t ht hW => ⟨⟨r15, u18, rfl, Option.some.inj hF, by rw [ht]; exact hP, va_K.moved hW.alike hK⟩, hS.F ht⟩) hS.2.2 dX5_setCell_94
        · replace hF := it_f c13 hF
          refine lv_iconst (v := 0) hx hb dX5_setCell_44 (by decide) ?_
          exact W.iret (v := 0) hx hb hr (fun t ht hW => ⟨⟨0, (tw_sf u11 6 2), rfl, Option.some.inj hF, by rw [ht]; exact hP, va_K.moved hW.alike hK⟩, hS.F ht⟩) hS.2.2 dX5_setCell_45
      · replace hF := it_f c12 hF
        refine lv_iconst (v := 0) hx hb dX5_setCell_29 (by decide) ?_
        refine lv_goto (tgt := 34) hx hb dX5_setCell_30 (by decide) ?_
        refine va_put (D := (dC, dI)) (ci := 0) (v := .int 0) (ty := .int) (C := RX5) (T := TX5) (N := 28) hx hb hts in_X5 tyX5 tyX5_ok nmX5 hown hK hP hD hS 0 tw_g rfl 6 (by decide) (hts _ q1992) (fun _ h9 => h9) rfl (tyX5_ok 6 (by decide)) rfl rfl (Nat.le_of_ble_eq_true rfl) dX5_setCell_34 (fun H locs hP hD hS => ?_)
        rw [tw_p6] at hP hD
        refine lv_aload_n hx hb dX5_setCell_37 rfl (lv_at hl 0 rfl) ?_
        refine va_get (D := (dC, dI)) (ci := 0) (v := .int (((tw_sf u11 6 0)).1 6)) (C := RX5) (T := TX5) (N := 28) hx hb hts in_X5 hown hK hP 0 tw_g rfl 6 (by decide) (hts _ q1992) (fun _ h9 => h9) rfl dX5_setCell_38 ?_
        refine lv_if_le (tgt := 46) hx hb dX5_setCell_41 (by decide) (fun c19 => ?_) (fun c19 => ?_)
        · replace hF := it_t c19 hF
          refine lv_aload_n hx hb dX5_setCell_46 rfl (lv_at hl 0 rfl) ?_
          obtain ⟨r20, u20, e20, hF⟩ := bnd_s hF
          refine tw_callv (va_runV (As := []) (rest := []) ⟨hx, hb, hml, hown, hts⟩ (mt_keeps l dC dI cI cZ m0 ad H.size (tw_sf u11 6 0) n   _ e20) (cwV 0 hts (lw_V q2091 q2093 qs46 q125 q2094) rfl rfl rfl (by decide +kernel) ⟨Nat.le_of_ble_eq_true rfl, Nat.le_of_ble_eq_true rfl⟩) (tw_preV hK hP hD _) rfl rfl hl.1 rfl (lv_room (Nat.le_of_ble_eq_true rfl)) dX5_setCell_47 ⟨Nat.le_of_ble_eq_true rfl, Nat.le_of_ble_eq_true rfl⟩) hS hD hAA (fun uu H locs hw hP hD hS => ?_)
          obtain rfl : u20 = uu := (congrArg Prod.snd hw).symm
          refine lv_aload_n hx hb dX5_setCell_50 rfl (lv_at hl 0 rfl) ?_
          refine lv_iload_n hx hb dX5_setCell_51 rfl (lv_at hl 1 rfl) ?_
          refine lv_iload_n hx hb dX5_setCell_52 rfl (lv_at hl 2 rfl) ?_
          obtain ⟨r21, u21, e21, hF⟩ := bnd_s hF
          refine tw_calli (va_runV (As := [.int p1, .int p2]) (rest := []) ⟨hx, hb, hml, hown, hts⟩ (mt_cellOf l dC dI cI cZ m0 ad H.size u20  p1 p2 _ e21) (cwV 2 hts (lw_V q2181 q2183 qs59 q125 q2184) rfl rfl rfl (by decide +kernel) ⟨Nat.le_of_ble_eq_true rfl, Nat.le_of_ble_eq_true rfl⟩) (tw_preV hK hP hD _) rfl rfl hl.1 rfl (lv_room (Nat.le_of_ble_eq_true rfl)) dX5_setCell_53 ⟨Nat.le_of_ble_eq_true rfl, Nat.le_of_ble_eq_true rfl⟩) hS hD hAA (fun rr uu H locs hw hP hD hS => ?_)
          obtain rfl : r21 = rr := (congrArg Prod.fst hw).symm
          obtain rfl : u21 = uu := (congrArg Prod.snd hw).symm
          refine lv_istore (lv' := [(4, .int r21), (0, .ref m0), (1, .int p1), (2, .int p2), (3, .int p3)]) hx hb dX5_setCell_56 hl (by decide) rfl (fun ls hl => ?_)
          refine lv_aload_n hx hb dX5_setCell_58 rfl (lv_at hl 1 rfl) ?_
          refine va_get (D := (dC, dI)) (ci := 0) (v := .ref (ad 0)) (C := RX5) (T := TX5) (N := 28) hx hb hts in_X5 hown hK hP 0 tw_g rfl 0 (by decide) (hts _ q1986) (fun _ h9 => h9) rfl dX5_setCell_59 ?_
          refine lv_bipush (v := 9) hx hb dX5_setCell_62 (by decide) ?_
          refine lv_bipush (v := 8) hx hb dX5_setCell_64 (by decide) ?_
          refine lv_iload_n hx hb dX5_setCell_66 rfl (lv_at hl 2 rfl) ?_
          refine lv_imul hx hb dX5_setCell_67 ?_
          refine lv_iadd hx hb dX5_setCell_68 ?_
          refine lv_iload_n hx hb dX5_setCell_69 rfl (lv_at hl 3 rfl) ?_
          refine lv_iadd hx hb dX5_setCell_70 ?_
          refine lv_iload_n hx hb dX5_setCell_71 rfl (lv_at hl 4 rfl) ?_
          obtain ⟨g22, hF⟩ := gd_s hF
          refine va_iast hx hb hK hP hD hS 1 0 tw_e0 rfl (x := p3) (inB_in g22) dX5_setCell_72 (fun H locs hP hD hS => ?_)
          rw [tw_s0] at hP hD
          refine lv_aload_n hx hb dX5_setCell_73 rfl (lv_at hl 1 rfl) ?_
          refine va_get (D := (dC, dI)) (ci := 0) (v := .ref (ad 0)) (C := RX5) (T := TX5) (N := 28) hx hb hts in_X5 hown hK hP 0 tw_g rfl 0 (by decide) (hts _ q1986) (fun _ h9 => h9) rfl dX5_setCell_74 ?_
          refine lv_bipush (v := 9) hx hb dX5_setCell_77 (by decide) ?_
          refine lv_bipush (v := 8) hx hb dX5_setCell_79 (by decide) ?_
          refine lv_iload_n hx hb dX5_setCell_81 rfl (lv_at hl 3 rfl) ?_
          refine lv_imul hx hb dX5_setCell_82 ?_
          refine lv_iadd hx hb dX5_setCell_83 ?_
          refine lv_iload_n hx hb dX5_setCell_84 rfl (lv_at hl 2 rfl) ?_
          refine lv_iadd hx hb dX5_setCell_85 ?_
          refine lv_iload_n hx hb dX5_setCell_86 rfl (lv_at hl 4 rfl) ?_
          obtain ⟨g23, hF⟩ := gd_s hF
          refine va_iast hx hb hK hP hD hS 1 0 tw_e0 rfl (x := p3) (inB_in g23) dX5_setCell_87 (fun H locs hP hD hS => ?_)
          rw [tw_s0] at hP hD
          refine lv_aload_n hx hb dX5_setCell_88 rfl (lv_at hl 1 rfl) ?_
          obtain ⟨r24, u24, e24, hF⟩ := bnd_s hF
          refine tw_callv (va_runV (As := []) (rest := []) ⟨hx, hb, hml, hown, hts⟩ (mt_resets l dC dI cI cZ m0 ad H.size (tw_sa (tw_sa u21 0 (((9 + (8 * p1)) + p2)).toNatClampNeg p3) 0 (((9 + (8 * p2)) + p1)).toNatClampNeg p3) n   _ e24) (cwV 0 hts (lw_V q2197 q2199 qs61 q125 q2200) rfl rfl rfl (by decide +kernel) ⟨Nat.le_of_ble_eq_true rfl, Nat.le_of_ble_eq_true rfl⟩) (tw_preV hK hP hD _) rfl rfl hl.1 rfl (lv_room (Nat.le_of_ble_eq_true rfl)) dX5_setCell_89 ⟨Nat.le_of_ble_eq_true rfl, Nat.le_of_ble_eq_true rfl⟩) hS hD hAA (fun uu H locs hw hP hD hS => ?_)
          obtain rfl : u24 = uu := (congrArg Prod.snd hw).symm
          refine lv_iload hx hb dX5_setCell_92 (lv_at hl 0 rfl) ?_
          exact W.iret (v := r21) hx hb hr (fun t ht hW => ⟨⟨r21, u24, rfl, Option.some.inj hF, by rw [ht]; exact hP, va_K.moved hW.alike hK⟩, hS.F ht⟩) hS.2.2 dX5_setCell_94
        · replace hF := it_f c19 hF
          refine lv_iconst (v := 0) hx hb dX5_setCell_44 (by decide) ?_
          exact W.iret (v := 0) hx hb hr (fun t ht hW => ⟨⟨0, (tw_sf u11 6 0), rfl, Option.some.inj hF, by rw [ht]; exact hP, va_K.moved hW.alike hK⟩, hS.F ht⟩) hS.2.2 dX5_setCell_45
    · replace hF := it_t c10 hF
      refine lv_iconst (v := 1) hx hb dX5_setCell_17 (by decide) ?_
      refine lv_goto (tgt := 34) hx hb dX5_setCell_18 (by decide) ?_
      refine va_put (D := (dC, dI)) (ci := 0) (v := .int 1) (ty := .int) (C := RX5) (T := TX5) (N := 28) hx hb hts in_X5 tyX5 tyX5_ok nmX5 hown hK hP hD hS 0 tw_g rfl 6 (by decide) (hts _ q1992) (fun _ h9 => h9) rfl (tyX5_ok 6 (by decide)) rfl rfl (Nat.le_of_ble_eq_true rfl) dX5_setCell_34 (fun H locs hP hD hS => ?_)
      rw [tw_p6] at hP hD
      refine lv_aload_n hx hb dX5_setCell_37 rfl (lv_at hl 0 rfl) ?_
      refine va_get (D := (dC, dI)) (ci := 0) (v := .int (((tw_sf u9 6 1)).1 6)) (C := RX5) (T := TX5) (N := 28) hx hb hts in_X5 hown hK hP 0 tw_g rfl 6 (by decide) (hts _ q1992) (fun _ h9 => h9) rfl dX5_setCell_38 ?_
      refine lv_if_le (tgt := 46) hx hb dX5_setCell_41 (by decide) (fun c25 => ?_) (fun c25 => ?_)
      · replace hF := it_t c25 hF
        refine lv_aload_n hx hb dX5_setCell_46 rfl (lv_at hl 0 rfl) ?_
        obtain ⟨r26, u26, e26, hF⟩ := bnd_s hF
        refine tw_callv (va_runV (As := []) (rest := []) ⟨hx, hb, hml, hown, hts⟩ (mt_keeps l dC dI cI cZ m0 ad H.size (tw_sf u9 6 1) n   _ e26) (cwV 0 hts (lw_V q2091 q2093 qs46 q125 q2094) rfl rfl rfl (by decide +kernel) ⟨Nat.le_of_ble_eq_true rfl, Nat.le_of_ble_eq_true rfl⟩) (tw_preV hK hP hD _) rfl rfl hl.1 rfl (lv_room (Nat.le_of_ble_eq_true rfl)) dX5_setCell_47 ⟨Nat.le_of_ble_eq_true rfl, Nat.le_of_ble_eq_true rfl⟩) hS hD hAA (fun uu H locs hw hP hD hS => ?_)
        obtain rfl : u26 = uu := (congrArg Prod.snd hw).symm
        refine lv_aload_n hx hb dX5_setCell_50 rfl (lv_at hl 0 rfl) ?_
        refine lv_iload_n hx hb dX5_setCell_51 rfl (lv_at hl 1 rfl) ?_
        refine lv_iload_n hx hb dX5_setCell_52 rfl (lv_at hl 2 rfl) ?_
        obtain ⟨r27, u27, e27, hF⟩ := bnd_s hF
        refine tw_calli (va_runV (As := [.int p1, .int p2]) (rest := []) ⟨hx, hb, hml, hown, hts⟩ (mt_cellOf l dC dI cI cZ m0 ad H.size u26  p1 p2 _ e27) (cwV 2 hts (lw_V q2181 q2183 qs59 q125 q2184) rfl rfl rfl (by decide +kernel) ⟨Nat.le_of_ble_eq_true rfl, Nat.le_of_ble_eq_true rfl⟩) (tw_preV hK hP hD _) rfl rfl hl.1 rfl (lv_room (Nat.le_of_ble_eq_true rfl)) dX5_setCell_53 ⟨Nat.le_of_ble_eq_true rfl, Nat.le_of_ble_eq_true rfl⟩) hS hD hAA (fun rr uu H locs hw hP hD hS => ?_)
        obtain rfl : r27 = rr := (congrArg Prod.fst hw).symm
        obtain rfl : u27 = uu := (congrArg Prod.snd hw).symm
        refine lv_istore (lv' := [(4, .int r27), (0, .ref m0), (1, .int p1), (2, .int p2), (3, .int p3)]) hx hb dX5_setCell_56 hl (by decide) rfl (fun ls hl => ?_)
        refine lv_aload_n hx hb dX5_setCell_58 rfl (lv_at hl 1 rfl) ?_
        refine va_get (D := (dC, dI)) (ci := 0) (v := .ref (ad 0)) (C := RX5) (T := TX5) (N := 28) hx hb hts in_X5 hown hK hP 0 tw_g rfl 0 (by decide) (hts _ q1986) (fun _ h9 => h9) rfl dX5_setCell_59 ?_
        refine lv_bipush (v := 9) hx hb dX5_setCell_62 (by decide) ?_
        refine lv_bipush (v := 8) hx hb dX5_setCell_64 (by decide) ?_
        refine lv_iload_n hx hb dX5_setCell_66 rfl (lv_at hl 2 rfl) ?_
        refine lv_imul hx hb dX5_setCell_67 ?_
        refine lv_iadd hx hb dX5_setCell_68 ?_
        refine lv_iload_n hx hb dX5_setCell_69 rfl (lv_at hl 3 rfl) ?_
        refine lv_iadd hx hb dX5_setCell_70 ?_
        refine lv_iload_n hx hb dX5_setCell_71 rfl (lv_at hl 4 rfl) ?_
        obtain ⟨g28, hF⟩ := gd_s hF
        refine va_iast hx hb hK hP hD hS 1 0 tw_e0 rfl (x := p3) (inB_in g28) dX5_setCell_72 (fun H locs hP hD hS => ?_)
        rw [tw_s0] at hP hD
        refine lv_aload_n hx hb dX5_setCell_73 rfl (lv_at hl 1 rfl) ?_
        refine va_get (D := (dC, dI)) (ci := 0) (v := .ref (ad 0)) (C := RX5) (T := TX5) (N := 28) hx hb hts in_X5 hown hK hP 0 tw_g rfl 0 (by decide) (hts _ q1986) (fun _ h9 => h9) rfl dX5_setCell_74 ?_
        refine lv_bipush (v := 9) hx hb dX5_setCell_77 (by decide) ?_
        refine lv_bipush (v := 8) hx hb dX5_setCell_79 (by decide) ?_
        refine lv_iload_n hx hb dX5_setCell_81 rfl (lv_at hl 3 rfl) ?_
        refine lv_imul hx hb dX5_setCell_82 ?_
        refine lv_iadd hx hb dX5_setCell_83 ?_
        refine lv_iload_n hx hb dX5_setCell_84 rfl (lv_at hl 2 rfl) ?_
        refine lv_iadd hx hb dX5_setCell_85 ?_
        refine lv_iload_n hx hb dX5_setCell_86 rfl (lv_at hl 4 rfl) ?_
        obtain ⟨g29, hF⟩ := gd_s hF
        refine va_iast hx hb hK hP hD hS 1 0 tw_e0 rfl (x := p3) (inB_in g29) dX5_setCell_87 (fun H locs hP hD hS => ?_)
        rw [tw_s0] at hP hD
        refine lv_aload_n hx hb dX5_setCell_88 rfl (lv_at hl 1 rfl) ?_
        obtain ⟨r30, u30, e30, hF⟩ := bnd_s hF
        refine tw_callv (va_runV (As := []) (rest := []) ⟨hx, hb, hml, hown, hts⟩ (mt_resets l dC dI cI cZ m0 ad H.size (tw_sa (tw_sa u27 0 (((9 + (8 * p1)) + p2)).toNatClampNeg p3) 0 (((9 + (8 * p2)) + p1)).toNatClampNeg p3) n   _ e30) (cwV 0 hts (lw_V q2197 q2199 qs61 q125 q2200) rfl rfl rfl (by decide +kernel) ⟨Nat.le_of_ble_eq_true rfl, Nat.le_of_ble_eq_true rfl⟩) (tw_preV hK hP hD _) rfl rfl hl.1 rfl (lv_room (Nat.le_of_ble_eq_true rfl)) dX5_setCell_89 ⟨Nat.le_of_ble_eq_true rfl, Nat.le_of_ble_eq_true rfl⟩) hS hD hAA (fun uu H locs hw hP hD hS => ?_)
        obtain rfl : u30 = uu := (congrArg Prod.snd hw).symm
        refine lv_iload hx hb dX5_setCell_92 (lv_at hl 0 rfl) ?_
        exact W.iret (v := r27) hx hb hr (fun t ht hW => ⟨⟨r27, u30, rfl, Option.some.inj hF, by rw [ht]; exact hP, va_K.moved hW.alike hK⟩, hS.F ht⟩) hS.2.2 dX5_setCell_94
      · replace hF := it_f c25 hF
        refine lv_iconst (v := 0) hx hb dX5_setCell_44 (by decide) ?_
        exact W.iret (v := 0) hx hb hr (fun t ht hW => ⟨⟨0, (tw_sf u9 6 1), rfl, Option.some.inj hF, by rw [ht]; exact hP, va_K.moved hW.alike hK⟩, hS.F ht⟩) hS.2.2 dX5_setCell_45

def F_setStart (n : Nat) (σ : Tw) (p1 : Int32) (p2 : Int32) : Option (Int32 × Tw) := bnd (F_isPlace σ p1) (fun r1 u1 => if r1 = 0 then if (((tw_sf u1 6 1)).1 6) ≤ 0 then bnd (F_keeps n (tw_sf u1 6 1) ) (fun r16 u16 => gd (inB (73 + p1) 162) (gd (inB (73 + p1) 162) (bnd (F_resets n (tw_sa u16 0 ((73 + p1)).toNatClampNeg p2) ) (fun r19 u19 => some (((u16).2 0 ((73 + p1)).toNatClampNeg), u19))))) else some (0, (tw_sf u1 6 1)) else bnd (F_isNumber u1 p2) (fun r3 u3 => if r3 = 0 then if (((tw_sf u3 6 2)).1 6) ≤ 0 then bnd (F_keeps n (tw_sf u3 6 2) ) (fun r6 u6 => gd (inB (73 + p1) 162) (gd (inB (73 + p1) 162) (bnd (F_resets n (tw_sa u6 0 ((73 + p1)).toNatClampNeg p2) ) (fun r9 u9 => some (((u6).2 0 ((73 + p1)).toNatClampNeg), u9))))) else some (0, (tw_sf u3 6 2)) else if (((tw_sf u3 6 0)).1 6) ≤ 0 then bnd (F_keeps n (tw_sf u3 6 0) ) (fun r11 u11 => gd (inB (73 + p1) 162) (gd (inB (73 + p1) 162) (bnd (F_resets n (tw_sa u11 0 ((73 + p1)).toNatClampNeg p2) ) (fun r14 u14 => some (((u11).2 0 ((73 + p1)).toNatClampNeg), u14))))) else some (0, (tw_sf u3 6 0))))
set_option maxHeartbeats 4000000 in
set_option maxRecDepth 100000 in
theorem mt_setStart (l : Launch) (dC : Nat → ClassId) (dI : Nat → Nat → Nat) (cI cZ : ClassId) (m0 : Nat) (ad : Nat → Nat) (sz : Nat) (σ : Tw) (n : Nat)  (p1 : Int32) (p2 : Int32) (out : Int32 × Tw) (hF : F_setStart n σ p1 p2 = some out) : Met l yX5_setStart (ws_ yX5_setStart cX5_setStart 4 (some .int)) ({ frames := 2, cells := 0, slots := 0, locals := 43 }) (va_Pc [.ref m0, .int p1, .int p2] (tw_Pre dC dI cI cZ m0 ad sz σ)) (va_Qi (fun r u => (r, u) = out) (tw_B dC dI cI cZ m0 ad) (tw_A m0 ad sz)) 0 0 (tw_A m0 ad sz) := by
  refine Met.ofW (cc := cX5_setStart) (maxL := 4) (ret := (some .int)) (by decide +kernel) rfl ?_
  intro p e s m args below meth c s₁ B hml hv
  obtain ⟨rfl, hsz, hP, hK, hD0⟩ := hv
  have hx := B.exec
  have hb := B.bytes
  have hr := B.returns
  have hts := atoms_spec (ws := (ws_ yX5_setStart cX5_setStart 4 (some .int))) B.pre
  have hts : ∀ w ∈ lw_all, w.before _ s = true := fun w h => hts w (List.mem_cons_of_mem _ h)
  have hown : s.vm.findClass RX5 = some m.cls := findClass_of_methodNamed B.named
  have hlocks := B.notSynchronized
  subst hsz
  have hD := tw_Ds (z := s.heap.size) hD0
  have hAA := fun z (h : s.heap.size ≤ z) => tw_Am (m0 := m0) (ad := ad) h
  generalize hAe : tw_A m0 ad s.heap.size = A at hD hAA ⊢
  have hS : va_S A s.heap s.heap [] := va_S.rf
  have hP : va_P (dC, dI) vwCl (tw_ws m0 ad cI cZ σ) s.heap := hP
  have hl := lv_entry ([.ref m0, .int p1, .int p2]) (n := 4) (Nat.le_of_ble_eq_true rfl)
  rw [lg_entry_eq]
  generalize (lg_sl ([.ref m0, .int p1, .int p2]) ++ List.replicate (4 - (lg_sl ([.ref m0, .int p1, .int p2])).length) Slot.unset).toArray = ls at hl ⊢
  have hl : lv_has ls 4 [(0, .ref m0), (1, .int p1), (2, .int p2)] := hl
  unfold F_setStart at hF
  refine lv_aload_n hx hb dX5_setStart_0 rfl (lv_at hl 0 rfl) ?_
  refine lv_aload_n hx hb dX5_setStart_1 rfl (lv_at hl 0 rfl) ?_
  refine lv_iload_n hx hb dX5_setStart_2 rfl (lv_at hl 1 rfl) ?_
  obtain ⟨r1, u1, e1, hF⟩ := bnd_s hF
  refine tw_calli (va_runV (As := [.int p1]) (rest := [.ref m0]) ⟨hx, hb, hml, hown, hts⟩ (mt_isPlace l dC dI cI cZ m0 ad s.heap.size σ  p1 _ e1) (cwV 1 hts (lw_V q2177 q2179 qs58 q125 q2180) rfl rfl rfl (by decide +kernel) ⟨Nat.le_of_ble_eq_true rfl, Nat.le_of_ble_eq_true rfl⟩) (tw_preV hK hP hD _) rfl rfl hl.1 rfl (lv_room (Nat.le_of_ble_eq_true rfl)) dX5_setStart_3 ⟨Nat.le_of_ble_eq_true rfl, Nat.le_of_ble_eq_true rfl⟩) hS hD hAA (fun rr uu H locs hw hP hD hS => ?_)
  obtain rfl : r1 = rr := (congrArg Prod.fst hw).symm
  obtain rfl : u1 = uu := (congrArg Prod.snd hw).symm
  refine lv_if_ne (tgt := 13) hx hb dX5_setStart_6 (by decide) (fun c2 => ?_) (fun c2 => ?_)
  · replace hF := it_f c2 hF
    refine lv_aload_n hx hb dX5_setStart_13 rfl (lv_at hl 0 rfl) ?_
    refine lv_iload_n hx hb dX5_setStart_14 rfl (lv_at hl 2 rfl) ?_
    obtain ⟨r3, u3, e3, hF⟩ := bnd_s hF
    refine tw_calli (va_runV (As := [.int p2]) (rest := [.ref m0]) ⟨hx, hb, hml, hown, hts⟩ (mt_isNumber l dC dI cI cZ m0 ad H.size u1  p2 _ e3) (cwV 1 hts (lw_V q2193 q2195 qs60 q125 q2196) rfl rfl rfl (by decide +kernel) ⟨Nat.le_of_ble_eq_true rfl, Nat.le_of_ble_eq_true rfl⟩) (tw_preV hK hP hD _) rfl rfl hl.1 rfl (lv_room (Nat.le_of_ble_eq_true rfl)) dX5_setStart_15 ⟨Nat.le_of_ble_eq_true rfl, Nat.le_of_ble_eq_true rfl⟩) hS hD hAA (fun rr uu H locs hw hP hD hS => ?_)
    obtain rfl : r3 = rr := (congrArg Prod.fst hw).symm
    obtain rfl : u3 = uu := (congrArg Prod.snd hw).symm
    refine lv_if_eq (tgt := 25) hx hb dX5_setStart_18 (by decide) (fun c4 => ?_) (fun c4 => ?_)
    · replace hF := it_t c4 hF
      refine lv_iconst (v := 2) hx hb dX5_setStart_25 (by decide) ?_
      refine va_put (D := (dC, dI)) (ci := 0) (v := .int 2) (ty := .int) (C := RX5) (T := TX5) (N := 28) hx hb hts in_X5 tyX5 tyX5_ok nmX5 hown hK hP hD hS 0 tw_g rfl 6 (by decide) (hts _ q1992) (fun _ h9 => h9) rfl (tyX5_ok 6 (by decide)) rfl rfl (Nat.le_of_ble_eq_true rfl) dX5_setStart_26 (fun H locs hP hD hS => ?_)
      rw [tw_p6] at hP hD
      refine lv_aload_n hx hb dX5_setStart_29 rfl (lv_at hl 0 rfl) ?_
      refine va_get (D := (dC, dI)) (ci := 0) (v := .int (((tw_sf u3 6 2)).1 6)) (C := RX5) (T := TX5) (N := 28) hx hb hts in_X5 hown hK hP 0 tw_g rfl 6 (by decide) (hts _ q1992) (fun _ h9 => h9) rfl dX5_setStart_30 ?_
      refine lv_if_le (tgt := 38) hx hb dX5_setStart_33 (by decide) (fun c5 => ?_) (fun c5 => ?_)
      · replace hF := it_t c5 hF
        refine lv_aload_n hx hb dX5_setStart_38 rfl (lv_at hl 0 rfl) ?_
        obtain ⟨r6, u6, e6, hF⟩ := bnd_s hF
        refine tw_callv (va_runV (As := []) (rest := []) ⟨hx, hb, hml, hown, hts⟩ (mt_keeps l dC dI cI cZ m0 ad H.size (tw_sf u3 6 2) n   _ e6) (cwV 0 hts (lw_V q2091 q2093 qs46 q125 q2094) rfl rfl rfl (by decide +kernel) ⟨Nat.le_of_ble_eq_true rfl, Nat.le_of_ble_eq_true rfl⟩) (tw_preV hK hP hD _) rfl rfl hl.1 rfl (lv_room (Nat.le_of_ble_eq_true rfl)) dX5_setStart_39 ⟨Nat.le_of_ble_eq_true rfl, Nat.le_of_ble_eq_true rfl⟩) hS hD hAA (fun uu H locs hw hP hD hS => ?_)
        obtain rfl : u6 = uu := (congrArg Prod.snd hw).symm
        refine lv_aload_n hx hb dX5_setStart_42 rfl (lv_at hl 0 rfl) ?_
        refine va_get (D := (dC, dI)) (ci := 0) (v := .ref (ad 0)) (C := RX5) (T := TX5) (N := 28) hx hb hts in_X5 hown hK hP 0 tw_g rfl 0 (by decide) (hts _ q1986) (fun _ h9 => h9) rfl dX5_setStart_43 ?_
        refine lv_bipush (v := 73) hx hb dX5_setStart_46 (by decide) ?_
        refine lv_iload_n hx hb dX5_setStart_48 rfl (lv_at hl 1 rfl) ?_
        refine lv_iadd hx hb dX5_setStart_49 ?_
        obtain ⟨g7, hF⟩ := gd_s hF
        refine va_iald hx hb hK hP 1 0 tw_e0 rfl (inB_in g7) dX5_setStart_50 ?_
        refine lv_istore_n (lv' := [(3, .int ((u6).2 0 ((73 + p1)).toNatClampNeg)), (0, .ref m0), (1, .int p1), (2, .int p2)]) hx hb dX5_setStart_51 rfl hl (by decide) rfl (fun ls hl => ?_)
        refine lv_aload_n hx hb dX5_setStart_52 rfl (lv_at hl 1 rfl) ?_
        refine va_get (D := (dC, dI)) (ci := 0) (v := .ref (ad 0)) (C := RX5) (T := TX5) (N := 28) hx hb hts in_X5 hown hK hP 0 tw_g rfl 0 (by decide) (hts _ q1986) (fun _ h9 => h9) rfl dX5_setStart_53 ?_
        refine lv_bipush (v := 73) hx hb dX5_setStart_56 (by decide) ?_
        refine lv_iload_n hx hb dX5_setStart_58 rfl (lv_at hl 2 rfl) ?_
        refine lv_iadd hx hb dX5_setStart_59 ?_
        refine lv_iload_n hx hb dX5_setStart_60 rfl (lv_at hl 3 rfl) ?_
        obtain ⟨g8, hF⟩ := gd_s hF
        refine va_iast hx hb hK hP hD hS 1 0 tw_e0 rfl (x := p2) (inB_in g8) dX5_setStart_61 (fun H locs hP hD hS => ?_)
        rw [tw_s0] at hP hD
        refine lv_aload_n hx hb dX5_setStart_62 rfl (lv_at hl 1 rfl) ?_
        obtain ⟨r9, u9, e9, hF⟩ := bnd_s hF
        refine tw_callv (va_runV (As := []) (rest := []) ⟨hx, hb, hml, hown, hts⟩ (mt_resets l dC dI cI cZ m0 ad H.size (tw_sa u6 0 ((73 + p1)).toNatClampNeg p2) n   _ e9) (cwV 0 hts (lw_V q2197 q2199 qs61 q125 q2200) rfl rfl rfl (by decide +kernel) ⟨Nat.le_of_ble_eq_true rfl, Nat.le_of_ble_eq_true rfl⟩) (tw_preV hK hP hD _) rfl rfl hl.1 rfl (lv_room (Nat.le_of_ble_eq_true rfl)) dX5_setStart_63 ⟨Nat.le_of_ble_eq_true rfl, Nat.le_of_ble_eq_true rfl⟩) hS hD hAA (fun uu H locs hw hP hD hS => ?_)
        obtain rfl : u9 = uu := (congrArg Prod.snd hw).symm
        refine lv_iload_n hx hb dX5_setStart_66 rfl (lv_at hl 0 rfl) ?_
        exact W.iret (v := ((u6).2 0 ((73 + p1)).toNatClampNeg)) hx hb hr (fun t ht hW => ⟨⟨((u6).2 0 ((73 + p1)).toNatClampNeg), u9, rfl, Option.some.inj hF, by rw [ht]; exact hP, va_K.moved hW.alike hK⟩, hS.F ht⟩) hS.2.2 dX5_setStart_67
      · replace hF := it_f c5 hF
        refine lv_iconst (v := 0) hx hb dX5_setStart_36 (by decide) ?_
        exact W.iret (v := 0) hx hb hr (fun t ht hW => ⟨⟨0, (tw_sf u3 6 2), rfl, Option.some.inj hF, by rw [ht]; exact hP, va_K.moved hW.alike hK⟩, hS.F ht⟩) hS.2.2 dX5_setStart_37
    · replace hF := it_f c4 hF
      refine lv_iconst (v := 0) hx hb dX5_setStart_21 (by decide) ?_
      refine lv_goto (tgt := 26) hx hb dX5_setStart_22 (by decide) ?_
      refine va_put (D := (dC, dI)) (ci := 0) (v := .int 0) (ty := .int) (C := RX5) (T := TX5) (N := 28) hx hb hts in_X5 tyX5 tyX5_ok nmX5 hown hK hP hD hS 0 tw_g rfl 6 (by decide) (hts _ q1992) (fun _ h9 => h9) rfl (tyX5_ok 6 (by decide)) rfl rfl (Nat.le_of_ble_eq_true rfl) dX5_setStart_26 (fun H locs hP hD hS => ?_)
      rw [tw_p6] at hP hD
      refine lv_aload_n hx hb dX5_setStart_29 rfl (lv_at hl 0 rfl) ?_
      refine va_get (D := (dC, dI)) (ci := 0) (v := .int (((tw_sf u3 6 0)).1 6)) (C := RX5) (T := TX5) (N := 28) hx hb hts in_X5 hown hK hP 0 tw_g rfl 6 (by decide) (hts _ q1992) (fun _ h9 => h9) rfl dX5_setStart_30 ?_
      refine lv_if_le (tgt := 38) hx hb dX5_setStart_33 (by decide) (fun c10 => ?_) (fun c10 => ?_)
      · replace hF := it_t c10 hF
        refine lv_aload_n hx hb dX5_setStart_38 rfl (lv_at hl 0 rfl) ?_
        obtain ⟨r11, u11, e11, hF⟩ := bnd_s hF
        refine tw_callv (va_runV (As := []) (rest := []) ⟨hx, hb, hml, hown, hts⟩ (mt_keeps l dC dI cI cZ m0 ad H.size (tw_sf u3 6 0) n   _ e11) (cwV 0 hts (lw_V q2091 q2093 qs46 q125 q2094) rfl rfl rfl (by decide +kernel) ⟨Nat.le_of_ble_eq_true rfl, Nat.le_of_ble_eq_true rfl⟩) (tw_preV hK hP hD _) rfl rfl hl.1 rfl (lv_room (Nat.le_of_ble_eq_true rfl)) dX5_setStart_39 ⟨Nat.le_of_ble_eq_true rfl, Nat.le_of_ble_eq_true rfl⟩) hS hD hAA (fun uu H locs hw hP hD hS => ?_)
        obtain rfl : u11 = uu := (congrArg Prod.snd hw).symm
        refine lv_aload_n hx hb dX5_setStart_42 rfl (lv_at hl 0 rfl) ?_
        refine va_get (D := (dC, dI)) (ci := 0) (v := .ref (ad 0)) (C := RX5) (T := TX5) (N := 28) hx hb hts in_X5 hown hK hP 0 tw_g rfl 0 (by decide) (hts _ q1986) (fun _ h9 => h9) rfl dX5_setStart_43 ?_
        refine lv_bipush (v := 73) hx hb dX5_setStart_46 (by decide) ?_
        refine lv_iload_n hx hb dX5_setStart_48 rfl (lv_at hl 1 rfl) ?_
        refine lv_iadd hx hb dX5_setStart_49 ?_
        obtain ⟨g12, hF⟩ := gd_s hF
        refine va_iald hx hb hK hP 1 0 tw_e0 rfl (inB_in g12) dX5_setStart_50 ?_
        refine lv_istore_n (lv' := [(3, .int ((u11).2 0 ((73 + p1)).toNatClampNeg)), (0, .ref m0), (1, .int p1), (2, .int p2)]) hx hb dX5_setStart_51 rfl hl (by decide) rfl (fun ls hl => ?_)
        refine lv_aload_n hx hb dX5_setStart_52 rfl (lv_at hl 1 rfl) ?_
        refine va_get (D := (dC, dI)) (ci := 0) (v := .ref (ad 0)) (C := RX5) (T := TX5) (N := 28) hx hb hts in_X5 hown hK hP 0 tw_g rfl 0 (by decide) (hts _ q1986) (fun _ h9 => h9) rfl dX5_setStart_53 ?_
        refine lv_bipush (v := 73) hx hb dX5_setStart_56 (by decide) ?_
        refine lv_iload_n hx hb dX5_setStart_58 rfl (lv_at hl 2 rfl) ?_
        refine lv_iadd hx hb dX5_setStart_59 ?_
        refine lv_iload_n hx hb dX5_setStart_60 rfl (lv_at hl 3 rfl) ?_
        obtain ⟨g13, hF⟩ := gd_s hF
        refine va_iast hx hb hK hP hD hS 1 0 tw_e0 rfl (x := p2) (inB_in g13) dX5_setStart_61 (fun H locs hP hD hS => ?_)
        rw [tw_s0] at hP hD
        refine lv_aload_n hx hb dX5_setStart_62 rfl (lv_at hl 1 rfl) ?_
        obtain ⟨r14, u14, e14, hF⟩ := bnd_s hF
        refine tw_callv (va_runV (As := []) (rest := []) ⟨hx, hb, hml, hown, hts⟩ (mt_resets l dC dI cI cZ m0 ad H.size (tw_sa u11 0 ((73 + p1)).toNatClampNeg p2) n   _ e14) (cwV 0 hts (lw_V q2197 q2199 qs61 q125 q2200) rfl rfl rfl (by decide +kernel) ⟨Nat.le_of_ble_eq_true rfl, Nat.le_of_ble_eq_true rfl⟩) (tw_preV hK hP hD _) rfl rfl hl.1 rfl (lv_room (Nat.le_of_ble_eq_true rfl)) dX5_setStart_63 ⟨Nat.le_of_ble_eq_true rfl, Nat.le_of_ble_eq_true rfl⟩) hS hD hAA (fun uu H locs hw hP hD hS => ?_)
        obtain rfl : u14 = uu := (congrArg Prod.snd hw).symm
        refine lv_iload_n hx hb dX5_setStart_66 rfl (lv_at hl 0 rfl) ?_
        exact W.iret (v := ((u11).2 0 ((73 + p1)).toNatClampNeg)) hx hb hr (fun t ht hW => ⟨⟨((u11).2 0 ((73 + p1)).toNatClampNeg), u14, rfl, Option.some.inj hF, by rw [ht]; exact hP, va_K.moved hW.alike hK⟩, hS.F ht⟩) hS.2.2 dX5_setStart_67
      · replace hF := it_f c10 hF
        refine lv_iconst (v := 0) hx hb dX5_setStart_36 (by decide) ?_
        exact W.iret (v := 0) hx hb hr (fun t ht hW => ⟨⟨0, (tw_sf u3 6 0), rfl, Option.some.inj hF, by rw [ht]; exact hP, va_K.moved hW.alike hK⟩, hS.F ht⟩) hS.2.2 dX5_setStart_37
  · replace hF := it_t c2 hF
    refine lv_iconst (v := 1) hx hb dX5_setStart_9 (by decide) ?_
    refine lv_goto (tgt := 26) hx hb dX5_setStart_10 (by decide) ?_
    refine va_put (D := (dC, dI)) (ci := 0) (v := .int 1) (ty := .int) (C := RX5) (T := TX5) (N := 28) hx hb hts in_X5 tyX5 tyX5_ok nmX5 hown hK hP hD hS 0 tw_g rfl 6 (by decide) (hts _ q1992) (fun _ h9 => h9) rfl (tyX5_ok 6 (by decide)) rfl rfl (Nat.le_of_ble_eq_true rfl) dX5_setStart_26 (fun H locs hP hD hS => ?_)
    rw [tw_p6] at hP hD
    refine lv_aload_n hx hb dX5_setStart_29 rfl (lv_at hl 0 rfl) ?_
    refine va_get (D := (dC, dI)) (ci := 0) (v := .int (((tw_sf u1 6 1)).1 6)) (C := RX5) (T := TX5) (N := 28) hx hb hts in_X5 hown hK hP 0 tw_g rfl 6 (by decide) (hts _ q1992) (fun _ h9 => h9) rfl dX5_setStart_30 ?_
    refine lv_if_le (tgt := 38) hx hb dX5_setStart_33 (by decide) (fun c15 => ?_) (fun c15 => ?_)
    · replace hF := it_t c15 hF
      refine lv_aload_n hx hb dX5_setStart_38 rfl (lv_at hl 0 rfl) ?_
      obtain ⟨r16, u16, e16, hF⟩ := bnd_s hF
      refine tw_callv (va_runV (As := []) (rest := []) ⟨hx, hb, hml, hown, hts⟩ (mt_keeps l dC dI cI cZ m0 ad H.size (tw_sf u1 6 1) n   _ e16) (cwV 0 hts (lw_V q2091 q2093 qs46 q125 q2094) rfl rfl rfl (by decide +kernel) ⟨Nat.le_of_ble_eq_true rfl, Nat.le_of_ble_eq_true rfl⟩) (tw_preV hK hP hD _) rfl rfl hl.1 rfl (lv_room (Nat.le_of_ble_eq_true rfl)) dX5_setStart_39 ⟨Nat.le_of_ble_eq_true rfl, Nat.le_of_ble_eq_true rfl⟩) hS hD hAA (fun uu H locs hw hP hD hS => ?_)
      obtain rfl : u16 = uu := (congrArg Prod.snd hw).symm
      refine lv_aload_n hx hb dX5_setStart_42 rfl (lv_at hl 0 rfl) ?_
      refine va_get (D := (dC, dI)) (ci := 0) (v := .ref (ad 0)) (C := RX5) (T := TX5) (N := 28) hx hb hts in_X5 hown hK hP 0 tw_g rfl 0 (by decide) (hts _ q1986) (fun _ h9 => h9) rfl dX5_setStart_43 ?_
      refine lv_bipush (v := 73) hx hb dX5_setStart_46 (by decide) ?_
      refine lv_iload_n hx hb dX5_setStart_48 rfl (lv_at hl 1 rfl) ?_
      refine lv_iadd hx hb dX5_setStart_49 ?_
      obtain ⟨g17, hF⟩ := gd_s hF
      refine va_iald hx hb hK hP 1 0 tw_e0 rfl (inB_in g17) dX5_setStart_50 ?_
      refine lv_istore_n (lv' := [(3, .int ((u16).2 0 ((73 + p1)).toNatClampNeg)), (0, .ref m0), (1, .int p1), (2, .int p2)]) hx hb dX5_setStart_51 rfl hl (by decide) rfl (fun ls hl => ?_)
      refine lv_aload_n hx hb dX5_setStart_52 rfl (lv_at hl 1 rfl) ?_
      refine va_get (D := (dC, dI)) (ci := 0) (v := .ref (ad 0)) (C := RX5) (T := TX5) (N := 28) hx hb hts in_X5 hown hK hP 0 tw_g rfl 0 (by decide) (hts _ q1986) (fun _ h9 => h9) rfl dX5_setStart_53 ?_
      refine lv_bipush (v := 73) hx hb dX5_setStart_56 (by decide) ?_
      refine lv_iload_n hx hb dX5_setStart_58 rfl (lv_at hl 2 rfl) ?_
      refine lv_iadd hx hb dX5_setStart_59 ?_
      refine lv_iload_n hx hb dX5_setStart_60 rfl (lv_at hl 3 rfl) ?_
      obtain ⟨g18, hF⟩ := gd_s hF
      refine va_iast hx hb hK hP hD hS 1 0 tw_e0 rfl (x := p2) (inB_in g18) dX5_setStart_61 (fun H locs hP hD hS => ?_)
      rw [tw_s0] at hP hD
      refine lv_aload_n hx hb dX5_setStart_62 rfl (lv_at hl 1 rfl) ?_
      obtain ⟨r19, u19, e19, hF⟩ := bnd_s hF
      refine tw_callv (va_runV (As := []) (rest := []) ⟨hx, hb, hml, hown, hts⟩ (mt_resets l dC dI cI cZ m0 ad H.size (tw_sa u16 0 ((73 + p1)).toNatClampNeg p2) n   _ e19) (cwV 0 hts (lw_V q2197 q2199 qs61 q125 q2200) rfl rfl rfl (by decide +kernel) ⟨Nat.le_of_ble_eq_true rfl, Nat.le_of_ble_eq_true rfl⟩) (tw_preV hK hP hD _) rfl rfl hl.1 rfl (lv_room (Nat.le_of_ble_eq_true rfl)) dX5_setStart_63 ⟨Nat.le_of_ble_eq_true rfl, Nat.le_of_ble_eq_true rfl⟩) hS hD hAA (fun uu H locs hw hP hD hS => ?_)
      obtain rfl : u19 = uu := (congrArg Prod.snd hw).symm
      refine lv_iload_n hx hb dX5_setStart_66 rfl (lv_at hl 0 rfl) ?_
      exact W.iret (v := ((u16).2 0 ((73 + p1)).toNatClampNeg)) hx hb hr (fun t ht hW => ⟨⟨((u16).2 0 ((73 + p1)).toNatClampNeg), u19, rfl, Option.some.inj hF, by rw [ht]; exact hP, va_K.moved hW.alike hK⟩, hS.F ht⟩) hS.2.2 dX5_setStart_67
    · replace hF := it_f c15 hF
      refine lv_iconst (v := 0) hx hb dX5_setStart_36 (by decide) ?_
      exact W.iret (v := 0) hx hb hr (fun t ht hW => ⟨⟨0, (tw_sf u1 6 1), rfl, Option.some.inj hF, by rw [ht]; exact hP, va_K.moved hW.alike hK⟩, hS.F ht⟩) hS.2.2 dX5_setStart_37

def F_sets (n : Nat) (σ : Tw) (p1 : Int32) (p2 : Int32) : Option (Int32 × Tw) := bnd (F_keeps n σ ) (fun r1 u1 => gd (inB p1 162) (gd (inB p1 162) (bnd (F_resets n (tw_sa u1 0 (p1).toNatClampNeg p2) ) (fun r4 u4 => some (((u1).2 0 (p1).toNatClampNeg), u4)))))
set_option maxHeartbeats 4000000 in
set_option maxRecDepth 100000 in
theorem mt_sets (l : Launch) (dC : Nat → ClassId) (dI : Nat → Nat → Nat) (cI cZ : ClassId) (m0 : Nat) (ad : Nat → Nat) (sz : Nat) (σ : Tw) (n : Nat)  (p1 : Int32) (p2 : Int32) (out : Int32 × Tw) (hF : F_sets n σ p1 p2 = some out) : Met l yX5_sets (ws_ yX5_sets cX5_sets 4 (some .int)) ({ frames := 1, cells := 0, slots := 0, locals := 21 }) (va_Pc [.ref m0, .int p1, .int p2] (tw_Pre dC dI cI cZ m0 ad sz σ)) (va_Qi (fun r u => (r, u) = out) (tw_B dC dI cI cZ m0 ad) (tw_A m0 ad sz)) 0 0 (tw_A m0 ad sz) := by
  refine Met.ofW (cc := cX5_sets) (maxL := 4) (ret := (some .int)) (by decide +kernel) rfl ?_
  intro p e s m args below meth c s₁ B hml hv
  obtain ⟨rfl, hsz, hP, hK, hD0⟩ := hv
  have hx := B.exec
  have hb := B.bytes
  have hr := B.returns
  have hts := atoms_spec (ws := (ws_ yX5_sets cX5_sets 4 (some .int))) B.pre
  have hts : ∀ w ∈ lw_all, w.before _ s = true := fun w h => hts w (List.mem_cons_of_mem _ h)
  have hown : s.vm.findClass RX5 = some m.cls := findClass_of_methodNamed B.named
  have hlocks := B.notSynchronized
  subst hsz
  have hD := tw_Ds (z := s.heap.size) hD0
  have hAA := fun z (h : s.heap.size ≤ z) => tw_Am (m0 := m0) (ad := ad) h
  generalize hAe : tw_A m0 ad s.heap.size = A at hD hAA ⊢
  have hS : va_S A s.heap s.heap [] := va_S.rf
  have hP : va_P (dC, dI) vwCl (tw_ws m0 ad cI cZ σ) s.heap := hP
  have hl := lv_entry ([.ref m0, .int p1, .int p2]) (n := 4) (Nat.le_of_ble_eq_true rfl)
  rw [lg_entry_eq]
  generalize (lg_sl ([.ref m0, .int p1, .int p2]) ++ List.replicate (4 - (lg_sl ([.ref m0, .int p1, .int p2])).length) Slot.unset).toArray = ls at hl ⊢
  have hl : lv_has ls 4 [(0, .ref m0), (1, .int p1), (2, .int p2)] := hl
  unfold F_sets at hF
  refine lv_aload_n hx hb dX5_sets_0 rfl (lv_at hl 0 rfl) ?_
  obtain ⟨r1, u1, e1, hF⟩ := bnd_s hF
  refine tw_callv (va_runV (As := []) (rest := []) ⟨hx, hb, hml, hown, hts⟩ (mt_keeps l dC dI cI cZ m0 ad s.heap.size σ n   _ e1) (cwV 0 hts (lw_V q2091 q2093 qs46 q125 q2094) rfl rfl rfl (by decide +kernel) ⟨Nat.le_of_ble_eq_true rfl, Nat.le_of_ble_eq_true rfl⟩) (tw_preV hK hP hD _) rfl rfl hl.1 rfl (lv_room (Nat.le_of_ble_eq_true rfl)) dX5_sets_1 ⟨Nat.le_of_ble_eq_true rfl, Nat.le_of_ble_eq_true rfl⟩) hS hD hAA (fun uu H locs hw hP hD hS => ?_)
  obtain rfl : u1 = uu := (congrArg Prod.snd hw).symm
  refine lv_aload_n hx hb dX5_sets_4 rfl (lv_at hl 0 rfl) ?_
  refine va_get (D := (dC, dI)) (ci := 0) (v := .ref (ad 0)) (C := RX5) (T := TX5) (N := 28) hx hb hts in_X5 hown hK hP 0 tw_g rfl 0 (by decide) (hts _ q1986) (fun _ h9 => h9) rfl dX5_sets_5 ?_
  refine lv_iload_n hx hb dX5_sets_8 rfl (lv_at hl 1 rfl) ?_
  obtain ⟨g2, hF⟩ := gd_s hF
  refine va_iald hx hb hK hP 1 0 tw_e0 rfl (inB_in g2) dX5_sets_9 ?_
  refine lv_istore_n (lv' := [(3, .int ((u1).2 0 (p1).toNatClampNeg)), (0, .ref m0), (1, .int p1), (2, .int p2)]) hx hb dX5_sets_10 rfl hl (by decide) rfl (fun ls hl => ?_)
  refine lv_aload_n hx hb dX5_sets_11 rfl (lv_at hl 1 rfl) ?_
  refine va_get (D := (dC, dI)) (ci := 0) (v := .ref (ad 0)) (C := RX5) (T := TX5) (N := 28) hx hb hts in_X5 hown hK hP 0 tw_g rfl 0 (by decide) (hts _ q1986) (fun _ h9 => h9) rfl dX5_sets_12 ?_
  refine lv_iload_n hx hb dX5_sets_15 rfl (lv_at hl 2 rfl) ?_
  refine lv_iload_n hx hb dX5_sets_16 rfl (lv_at hl 3 rfl) ?_
  obtain ⟨g3, hF⟩ := gd_s hF
  refine va_iast hx hb hK hP hD hS 1 0 tw_e0 rfl (x := p2) (inB_in g3) dX5_sets_17 (fun H locs hP hD hS => ?_)
  rw [tw_s0] at hP hD
  refine lv_aload_n hx hb dX5_sets_18 rfl (lv_at hl 1 rfl) ?_
  obtain ⟨r4, u4, e4, hF⟩ := bnd_s hF
  refine tw_callv (va_runV (As := []) (rest := []) ⟨hx, hb, hml, hown, hts⟩ (mt_resets l dC dI cI cZ m0 ad H.size (tw_sa u1 0 (p1).toNatClampNeg p2) n   _ e4) (cwV 0 hts (lw_V q2197 q2199 qs61 q125 q2200) rfl rfl rfl (by decide +kernel) ⟨Nat.le_of_ble_eq_true rfl, Nat.le_of_ble_eq_true rfl⟩) (tw_preV hK hP hD _) rfl rfl hl.1 rfl (lv_room (Nat.le_of_ble_eq_true rfl)) dX5_sets_19 ⟨Nat.le_of_ble_eq_true rfl, Nat.le_of_ble_eq_true rfl⟩) hS hD hAA (fun uu H locs hw hP hD hS => ?_)
  obtain rfl : u4 = uu := (congrArg Prod.snd hw).symm
  refine lv_iload_n hx hb dX5_sets_22 rfl (lv_at hl 0 rfl) ?_
  exact W.iret (v := ((u1).2 0 (p1).toNatClampNeg)) hx hb hr (fun t ht hW => ⟨⟨((u1).2 0 (p1).toNatClampNeg), u4, rfl, Option.some.inj hF, by rw [ht]; exact hP, va_K.moved hW.alike hK⟩, hS.F ht⟩) hS.2.2 dX5_sets_23

def F_setLimit (n : Nat) (σ : Tw) (p1 : Int32) : Option (Int32 × Tw) := bnd (F_isIn σ p1 1 8) (fun r1 u1 => if r1 = 0 then if (((tw_sf u1 6 1)).1 6) ≤ 0 then bnd (F_sets n (tw_sf u1 6 1) 2 p1) (fun r4 u4 => some (r4, u4)) else some (0, (tw_sf u1 6 1)) else if (((tw_sf u1 6 0)).1 6) ≤ 0 then bnd (F_sets n (tw_sf u1 6 0) 2 p1) (fun r6 u6 => some (r6, u6)) else some (0, (tw_sf u1 6 0)))
set_option maxHeartbeats 4000000 in
set_option maxRecDepth 100000 in
theorem mt_setLimit (l : Launch) (dC : Nat → ClassId) (dI : Nat → Nat → Nat) (cI cZ : ClassId) (m0 : Nat) (ad : Nat → Nat) (sz : Nat) (σ : Tw) (n : Nat)  (p1 : Int32) (out : Int32 × Tw) (hF : F_setLimit n σ p1 = some out) : Met l yX5_setLimit (ws_ yX5_setLimit cX5_setLimit 2 (some .int)) ({ frames := 2, cells := 0, slots := 0, locals := 44 }) (va_Pc [.ref m0, .int p1] (tw_Pre dC dI cI cZ m0 ad sz σ)) (va_Qi (fun r u => (r, u) = out) (tw_B dC dI cI cZ m0 ad) (tw_A m0 ad sz)) 0 0 (tw_A m0 ad sz) := by
  refine Met.ofW (cc := cX5_setLimit) (maxL := 2) (ret := (some .int)) (by decide +kernel) rfl ?_
  intro p e s m args below meth c s₁ B hml hv
  obtain ⟨rfl, hsz, hP, hK, hD0⟩ := hv
  have hx := B.exec
  have hb := B.bytes
  have hr := B.returns
  have hts := atoms_spec (ws := (ws_ yX5_setLimit cX5_setLimit 2 (some .int))) B.pre
  have hts : ∀ w ∈ lw_all, w.before _ s = true := fun w h => hts w (List.mem_cons_of_mem _ h)
  have hown : s.vm.findClass RX5 = some m.cls := findClass_of_methodNamed B.named
  have hlocks := B.notSynchronized
  subst hsz
  have hD := tw_Ds (z := s.heap.size) hD0
  have hAA := fun z (h : s.heap.size ≤ z) => tw_Am (m0 := m0) (ad := ad) h
  generalize hAe : tw_A m0 ad s.heap.size = A at hD hAA ⊢
  have hS : va_S A s.heap s.heap [] := va_S.rf
  have hP : va_P (dC, dI) vwCl (tw_ws m0 ad cI cZ σ) s.heap := hP
  have hl := lv_entry ([.ref m0, .int p1]) (n := 2) (Nat.le_of_ble_eq_true rfl)
  rw [lg_entry_eq]
  generalize (lg_sl ([.ref m0, .int p1]) ++ List.replicate (2 - (lg_sl ([.ref m0, .int p1])).length) Slot.unset).toArray = ls at hl ⊢
  have hl : lv_has ls 2 [(0, .ref m0), (1, .int p1)] := hl
  unfold F_setLimit at hF
  refine lv_aload_n hx hb dX5_setLimit_0 rfl (lv_at hl 0 rfl) ?_
  refine lv_iload_n hx hb dX5_setLimit_1 rfl (lv_at hl 1 rfl) ?_
  refine lv_iconst (v := 1) hx hb dX5_setLimit_2 (by decide) ?_
  refine lv_bipush (v := 8) hx hb dX5_setLimit_3 (by decide) ?_
  obtain ⟨r1, u1, e1, hF⟩ := bnd_s hF
  refine tw_calli (va_runS (As := [.int p1, .int 1, .int 8]) (rest := [.ref m0]) ⟨hx, hb, hml, hown, hts⟩ (mt_isIn l dC dI cI cZ m0 ad s.heap.size σ  p1 1 8 _ e1) (va_cwS 3 hts (lw_S q2084 q2085 q125 q2086) rfl rfl rfl (by decide +kernel) ⟨Nat.le_of_ble_eq_true rfl, Nat.le_of_ble_eq_true rfl⟩) (tw_preS hK hP hD _) rfl rfl hl.1 rfl (lv_room (Nat.le_of_ble_eq_true rfl)) dX5_setLimit_5 ⟨Nat.le_of_ble_eq_true rfl, Nat.le_of_ble_eq_true rfl⟩) hS hD hAA (fun rr uu H locs hw hP hD hS => ?_)
  obtain rfl : r1 = rr := (congrArg Prod.fst hw).symm
  obtain rfl : u1 = uu := (congrArg Prod.snd hw).symm
  refine lv_if_eq (tgt := 15) hx hb dX5_setLimit_8 (by decide) (fun c2 => ?_) (fun c2 => ?_)
  · replace hF := it_t c2 hF
    refine lv_iconst (v := 1) hx hb dX5_setLimit_15 (by decide) ?_
    refine va_put (D := (dC, dI)) (ci := 0) (v := .int 1) (ty := .int) (C := RX5) (T := TX5) (N := 28) hx hb hts in_X5 tyX5 tyX5_ok nmX5 hown hK hP hD hS 0 tw_g rfl 6 (by decide) (hts _ q1992) (fun _ h9 => h9) rfl (tyX5_ok 6 (by decide)) rfl rfl (Nat.le_of_ble_eq_true rfl) dX5_setLimit_16 (fun H locs hP hD hS => ?_)
    rw [tw_p6] at hP hD
    refine lv_aload_n hx hb dX5_setLimit_19 rfl (lv_at hl 0 rfl) ?_
    refine va_get (D := (dC, dI)) (ci := 0) (v := .int (((tw_sf u1 6 1)).1 6)) (C := RX5) (T := TX5) (N := 28) hx hb hts in_X5 hown hK hP 0 tw_g rfl 6 (by decide) (hts _ q1992) (fun _ h9 => h9) rfl dX5_setLimit_20 ?_
    refine lv_if_le (tgt := 30) hx hb dX5_setLimit_23 (by decide) (fun c3 => ?_) (fun c3 => ?_)
    · replace hF := it_t c3 hF
      refine lv_aload_n hx hb dX5_setLimit_30 rfl (lv_at hl 0 rfl) ?_
      refine lv_iconst (v := 2) hx hb dX5_setLimit_31 (by decide) ?_
      refine lv_iload_n hx hb dX5_setLimit_32 rfl (lv_at hl 1 rfl) ?_
      obtain ⟨r4, u4, e4, hF⟩ := bnd_s hF
      refine tw_calli (va_runV (As := [.int 2, .int p1]) (rest := []) ⟨hx, hb, hml, hown, hts⟩ (mt_sets l dC dI cI cZ m0 ad H.size (tw_sf u1 6 1) n  2 p1 _ e4) (cwV 2 hts (lw_V q2209 q2211 qs62 q125 q2212) rfl rfl rfl (by decide +kernel) ⟨Nat.le_of_ble_eq_true rfl, Nat.le_of_ble_eq_true rfl⟩) (tw_preV hK hP hD _) rfl rfl hl.1 rfl (lv_room (Nat.le_of_ble_eq_true rfl)) dX5_setLimit_33 ⟨Nat.le_of_ble_eq_true rfl, Nat.le_of_ble_eq_true rfl⟩) hS hD hAA (fun rr uu H locs hw hP hD hS => ?_)
      obtain rfl : r4 = rr := (congrArg Prod.fst hw).symm
      obtain rfl : u4 = uu := (congrArg Prod.snd hw).symm
      exact W.iret (v := r4) hx hb hr (fun t ht hW => ⟨⟨r4, u4, rfl, Option.some.inj hF, by rw [ht]; exact hP, va_K.moved hW.alike hK⟩, hS.F ht⟩) hS.2.2 dX5_setLimit_36
    · replace hF := it_f c3 hF
      refine lv_iconst (v := 0) hx hb dX5_setLimit_26 (by decide) ?_
      refine lv_goto (tgt := 36) hx hb dX5_setLimit_27 (by decide) ?_
      exact W.iret (v := 0) hx hb hr (fun t ht hW => ⟨⟨0, (tw_sf u1 6 1), rfl, Option.some.inj hF, by rw [ht]; exact hP, va_K.moved hW.alike hK⟩, hS.F ht⟩) hS.2.2 dX5_setLimit_36
  · replace hF := it_f c2 hF
    refine lv_iconst (v := 0) hx hb dX5_setLimit_11 (by decide) ?_
    refine lv_goto (tgt := 16) hx hb dX5_setLimit_12 (by decide) ?_
    refine va_put (D := (dC, dI)) (ci := 0) (v := .int 0) (ty := .int) (C := RX5) (T := TX5) (N := 28) hx hb hts in_X5 tyX5 tyX5_ok nmX5 hown hK hP hD hS 0 tw_g rfl 6 (by decide) (hts _ q1992) (fun _ h9 => h9) rfl (tyX5_ok 6 (by decide)) rfl rfl (Nat.le_of_ble_eq_true rfl) dX5_setLimit_16 (fun H locs hP hD hS => ?_)
    rw [tw_p6] at hP hD
    refine lv_aload_n hx hb dX5_setLimit_19 rfl (lv_at hl 0 rfl) ?_
    refine va_get (D := (dC, dI)) (ci := 0) (v := .int (((tw_sf u1 6 0)).1 6)) (C := RX5) (T := TX5) (N := 28) hx hb hts in_X5 hown hK hP 0 tw_g rfl 6 (by decide) (hts _ q1992) (fun _ h9 => h9) rfl dX5_setLimit_20 ?_
    refine lv_if_le (tgt := 30) hx hb dX5_setLimit_23 (by decide) (fun c5 => ?_) (fun c5 => ?_)
    · replace hF := it_t c5 hF
      refine lv_aload_n hx hb dX5_setLimit_30 rfl (lv_at hl 0 rfl) ?_
      refine lv_iconst (v := 2) hx hb dX5_setLimit_31 (by decide) ?_
      refine lv_iload_n hx hb dX5_setLimit_32 rfl (lv_at hl 1 rfl) ?_
      obtain ⟨r6, u6, e6, hF⟩ := bnd_s hF
      refine tw_calli (va_runV (As := [.int 2, .int p1]) (rest := []) ⟨hx, hb, hml, hown, hts⟩ (mt_sets l dC dI cI cZ m0 ad H.size (tw_sf u1 6 0) n  2 p1 _ e6) (cwV 2 hts (lw_V q2209 q2211 qs62 q125 q2212) rfl rfl rfl (by decide +kernel) ⟨Nat.le_of_ble_eq_true rfl, Nat.le_of_ble_eq_true rfl⟩) (tw_preV hK hP hD _) rfl rfl hl.1 rfl (lv_room (Nat.le_of_ble_eq_true rfl)) dX5_setLimit_33 ⟨Nat.le_of_ble_eq_true rfl, Nat.le_of_ble_eq_true rfl⟩) hS hD hAA (fun rr uu H locs hw hP hD hS => ?_)
      obtain rfl : r6 = rr := (congrArg Prod.fst hw).symm
      obtain rfl : u6 = uu := (congrArg Prod.snd hw).symm
      exact W.iret (v := r6) hx hb hr (fun t ht hW => ⟨⟨r6, u6, rfl, Option.some.inj hF, by rw [ht]; exact hP, va_K.moved hW.alike hK⟩, hS.F ht⟩) hS.2.2 dX5_setLimit_36
    · replace hF := it_f c5 hF
      refine lv_iconst (v := 0) hx hb dX5_setLimit_26 (by decide) ?_
      refine lv_goto (tgt := 36) hx hb dX5_setLimit_27 (by decide) ?_
      exact W.iret (v := 0) hx hb hr (fun t ht hW => ⟨⟨0, (tw_sf u1 6 0), rfl, Option.some.inj hF, by rw [ht]; exact hP, va_K.moved hW.alike hK⟩, hS.F ht⟩) hS.2.2 dX5_setLimit_36

def F_setRestarts (n : Nat) (σ : Tw) (p1 : Int32) : Option (Int32 × Tw) := bnd (F_isIn σ p1 0 8) (fun r1 u1 => if r1 = 0 then if (((tw_sf u1 6 1)).1 6) ≤ 0 then bnd (F_sets n (tw_sf u1 6 1) 3 p1) (fun r4 u4 => some (r4, u4)) else some (0, (tw_sf u1 6 1)) else if (((tw_sf u1 6 0)).1 6) ≤ 0 then bnd (F_sets n (tw_sf u1 6 0) 3 p1) (fun r6 u6 => some (r6, u6)) else some (0, (tw_sf u1 6 0)))
set_option maxHeartbeats 4000000 in
set_option maxRecDepth 100000 in
theorem mt_setRestarts (l : Launch) (dC : Nat → ClassId) (dI : Nat → Nat → Nat) (cI cZ : ClassId) (m0 : Nat) (ad : Nat → Nat) (sz : Nat) (σ : Tw) (n : Nat)  (p1 : Int32) (out : Int32 × Tw) (hF : F_setRestarts n σ p1 = some out) : Met l yX5_setRestarts (ws_ yX5_setRestarts cX5_setRestarts 2 (some .int)) ({ frames := 2, cells := 0, slots := 0, locals := 44 }) (va_Pc [.ref m0, .int p1] (tw_Pre dC dI cI cZ m0 ad sz σ)) (va_Qi (fun r u => (r, u) = out) (tw_B dC dI cI cZ m0 ad) (tw_A m0 ad sz)) 0 0 (tw_A m0 ad sz) := by
  refine Met.ofW (cc := cX5_setRestarts) (maxL := 2) (ret := (some .int)) (by decide +kernel) rfl ?_
  intro p e s m args below meth c s₁ B hml hv
  obtain ⟨rfl, hsz, hP, hK, hD0⟩ := hv
  have hx := B.exec
  have hb := B.bytes
  have hr := B.returns
  have hts := atoms_spec (ws := (ws_ yX5_setRestarts cX5_setRestarts 2 (some .int))) B.pre
  have hts : ∀ w ∈ lw_all, w.before _ s = true := fun w h => hts w (List.mem_cons_of_mem _ h)
  have hown : s.vm.findClass RX5 = some m.cls := findClass_of_methodNamed B.named
  have hlocks := B.notSynchronized
  subst hsz
  have hD := tw_Ds (z := s.heap.size) hD0
  have hAA := fun z (h : s.heap.size ≤ z) => tw_Am (m0 := m0) (ad := ad) h
  generalize hAe : tw_A m0 ad s.heap.size = A at hD hAA ⊢
  have hS : va_S A s.heap s.heap [] := va_S.rf
  have hP : va_P (dC, dI) vwCl (tw_ws m0 ad cI cZ σ) s.heap := hP
  have hl := lv_entry ([.ref m0, .int p1]) (n := 2) (Nat.le_of_ble_eq_true rfl)
  rw [lg_entry_eq]
  generalize (lg_sl ([.ref m0, .int p1]) ++ List.replicate (2 - (lg_sl ([.ref m0, .int p1])).length) Slot.unset).toArray = ls at hl ⊢
  have hl : lv_has ls 2 [(0, .ref m0), (1, .int p1)] := hl
  unfold F_setRestarts at hF
  refine lv_aload_n hx hb dX5_setRestarts_0 rfl (lv_at hl 0 rfl) ?_
  refine lv_iload_n hx hb dX5_setRestarts_1 rfl (lv_at hl 1 rfl) ?_
  refine lv_iconst (v := 0) hx hb dX5_setRestarts_2 (by decide) ?_
  refine lv_bipush (v := 8) hx hb dX5_setRestarts_3 (by decide) ?_
  obtain ⟨r1, u1, e1, hF⟩ := bnd_s hF
  refine tw_calli (va_runS (As := [.int p1, .int 0, .int 8]) (rest := [.ref m0]) ⟨hx, hb, hml, hown, hts⟩ (mt_isIn l dC dI cI cZ m0 ad s.heap.size σ  p1 0 8 _ e1) (va_cwS 3 hts (lw_S q2084 q2085 q125 q2086) rfl rfl rfl (by decide +kernel) ⟨Nat.le_of_ble_eq_true rfl, Nat.le_of_ble_eq_true rfl⟩) (tw_preS hK hP hD _) rfl rfl hl.1 rfl (lv_room (Nat.le_of_ble_eq_true rfl)) dX5_setRestarts_5 ⟨Nat.le_of_ble_eq_true rfl, Nat.le_of_ble_eq_true rfl⟩) hS hD hAA (fun rr uu H locs hw hP hD hS => ?_)
  obtain rfl : r1 = rr := (congrArg Prod.fst hw).symm
  obtain rfl : u1 = uu := (congrArg Prod.snd hw).symm
  refine lv_if_eq (tgt := 15) hx hb dX5_setRestarts_8 (by decide) (fun c2 => ?_) (fun c2 => ?_)
  · replace hF := it_t c2 hF
    refine lv_iconst (v := 1) hx hb dX5_setRestarts_15 (by decide) ?_
    refine va_put (D := (dC, dI)) (ci := 0) (v := .int 1) (ty := .int) (C := RX5) (T := TX5) (N := 28) hx hb hts in_X5 tyX5 tyX5_ok nmX5 hown hK hP hD hS 0 tw_g rfl 6 (by decide) (hts _ q1992) (fun _ h9 => h9) rfl (tyX5_ok 6 (by decide)) rfl rfl (Nat.le_of_ble_eq_true rfl) dX5_setRestarts_16 (fun H locs hP hD hS => ?_)
    rw [tw_p6] at hP hD
    refine lv_aload_n hx hb dX5_setRestarts_19 rfl (lv_at hl 0 rfl) ?_
    refine va_get (D := (dC, dI)) (ci := 0) (v := .int (((tw_sf u1 6 1)).1 6)) (C := RX5) (T := TX5) (N := 28) hx hb hts in_X5 hown hK hP 0 tw_g rfl 6 (by decide) (hts _ q1992) (fun _ h9 => h9) rfl dX5_setRestarts_20 ?_
    refine lv_if_le (tgt := 30) hx hb dX5_setRestarts_23 (by decide) (fun c3 => ?_) (fun c3 => ?_)
    · replace hF := it_t c3 hF
      refine lv_aload_n hx hb dX5_setRestarts_30 rfl (lv_at hl 0 rfl) ?_
      refine lv_iconst (v := 3) hx hb dX5_setRestarts_31 (by decide) ?_
      refine lv_iload_n hx hb dX5_setRestarts_32 rfl (lv_at hl 1 rfl) ?_
      obtain ⟨r4, u4, e4, hF⟩ := bnd_s hF
      refine tw_calli (va_runV (As := [.int 3, .int p1]) (rest := []) ⟨hx, hb, hml, hown, hts⟩ (mt_sets l dC dI cI cZ m0 ad H.size (tw_sf u1 6 1) n  3 p1 _ e4) (cwV 2 hts (lw_V q2209 q2211 qs62 q125 q2212) rfl rfl rfl (by decide +kernel) ⟨Nat.le_of_ble_eq_true rfl, Nat.le_of_ble_eq_true rfl⟩) (tw_preV hK hP hD _) rfl rfl hl.1 rfl (lv_room (Nat.le_of_ble_eq_true rfl)) dX5_setRestarts_33 ⟨Nat.le_of_ble_eq_true rfl, Nat.le_of_ble_eq_true rfl⟩) hS hD hAA (fun rr uu H locs hw hP hD hS => ?_)
      obtain rfl : r4 = rr := (congrArg Prod.fst hw).symm
      obtain rfl : u4 = uu := (congrArg Prod.snd hw).symm
      exact W.iret (v := r4) hx hb hr (fun t ht hW => ⟨⟨r4, u4, rfl, Option.some.inj hF, by rw [ht]; exact hP, va_K.moved hW.alike hK⟩, hS.F ht⟩) hS.2.2 dX5_setRestarts_36
    · replace hF := it_f c3 hF
      refine lv_iconst (v := 0) hx hb dX5_setRestarts_26 (by decide) ?_
      refine lv_goto (tgt := 36) hx hb dX5_setRestarts_27 (by decide) ?_
      exact W.iret (v := 0) hx hb hr (fun t ht hW => ⟨⟨0, (tw_sf u1 6 1), rfl, Option.some.inj hF, by rw [ht]; exact hP, va_K.moved hW.alike hK⟩, hS.F ht⟩) hS.2.2 dX5_setRestarts_36
  · replace hF := it_f c2 hF
    refine lv_iconst (v := 0) hx hb dX5_setRestarts_11 (by decide) ?_
    refine lv_goto (tgt := 16) hx hb dX5_setRestarts_12 (by decide) ?_
    refine va_put (D := (dC, dI)) (ci := 0) (v := .int 0) (ty := .int) (C := RX5) (T := TX5) (N := 28) hx hb hts in_X5 tyX5 tyX5_ok nmX5 hown hK hP hD hS 0 tw_g rfl 6 (by decide) (hts _ q1992) (fun _ h9 => h9) rfl (tyX5_ok 6 (by decide)) rfl rfl (Nat.le_of_ble_eq_true rfl) dX5_setRestarts_16 (fun H locs hP hD hS => ?_)
    rw [tw_p6] at hP hD
    refine lv_aload_n hx hb dX5_setRestarts_19 rfl (lv_at hl 0 rfl) ?_
    refine va_get (D := (dC, dI)) (ci := 0) (v := .int (((tw_sf u1 6 0)).1 6)) (C := RX5) (T := TX5) (N := 28) hx hb hts in_X5 hown hK hP 0 tw_g rfl 6 (by decide) (hts _ q1992) (fun _ h9 => h9) rfl dX5_setRestarts_20 ?_
    refine lv_if_le (tgt := 30) hx hb dX5_setRestarts_23 (by decide) (fun c5 => ?_) (fun c5 => ?_)
    · replace hF := it_t c5 hF
      refine lv_aload_n hx hb dX5_setRestarts_30 rfl (lv_at hl 0 rfl) ?_
      refine lv_iconst (v := 3) hx hb dX5_setRestarts_31 (by decide) ?_
      refine lv_iload_n hx hb dX5_setRestarts_32 rfl (lv_at hl 1 rfl) ?_
      obtain ⟨r6, u6, e6, hF⟩ := bnd_s hF
      refine tw_calli (va_runV (As := [.int 3, .int p1]) (rest := []) ⟨hx, hb, hml, hown, hts⟩ (mt_sets l dC dI cI cZ m0 ad H.size (tw_sf u1 6 0) n  3 p1 _ e6) (cwV 2 hts (lw_V q2209 q2211 qs62 q125 q2212) rfl rfl rfl (by decide +kernel) ⟨Nat.le_of_ble_eq_true rfl, Nat.le_of_ble_eq_true rfl⟩) (tw_preV hK hP hD _) rfl rfl hl.1 rfl (lv_room (Nat.le_of_ble_eq_true rfl)) dX5_setRestarts_33 ⟨Nat.le_of_ble_eq_true rfl, Nat.le_of_ble_eq_true rfl⟩) hS hD hAA (fun rr uu H locs hw hP hD hS => ?_)
      obtain rfl : r6 = rr := (congrArg Prod.fst hw).symm
      obtain rfl : u6 = uu := (congrArg Prod.snd hw).symm
      exact W.iret (v := r6) hx hb hr (fun t ht hW => ⟨⟨r6, u6, rfl, Option.some.inj hF, by rw [ht]; exact hP, va_K.moved hW.alike hK⟩, hS.F ht⟩) hS.2.2 dX5_setRestarts_36
    · replace hF := it_f c5 hF
      refine lv_iconst (v := 0) hx hb dX5_setRestarts_26 (by decide) ?_
      refine lv_goto (tgt := 36) hx hb dX5_setRestarts_27 (by decide) ?_
      exact W.iret (v := 0) hx hb hr (fun t ht hW => ⟨⟨0, (tw_sf u1 6 0), rfl, Option.some.inj hF, by rw [ht]; exact hP, va_K.moved hW.alike hK⟩, hS.F ht⟩) hS.2.2 dX5_setRestarts_36

def F_setFull (n : Nat) (σ : Tw) (p1 : Int32) : Option (Int32 × Tw) := if p1 = 0 then bnd (F_sets n (tw_sf σ 6 0) 4 0) (fun r2 u2 => if r2 = 1 then some (1, u2) else some (0, u2)) else bnd (F_sets n (tw_sf σ 6 0) 4 1) (fun r4 u4 => if r4 = 1 then some (1, u4) else some (0, u4))
set_option maxHeartbeats 4000000 in
set_option maxRecDepth 100000 in
theorem mt_setFull (l : Launch) (dC : Nat → ClassId) (dI : Nat → Nat → Nat) (cI cZ : ClassId) (m0 : Nat) (ad : Nat → Nat) (sz : Nat) (σ : Tw) (n : Nat)  (p1 : Int32) (out : Int32 × Tw) (hF : F_setFull n σ p1 = some out) : Met l yX5_setFull (ws_ yX5_setFull cX5_setFull 2 (some .boolean)) ({ frames := 2, cells := 0, slots := 0, locals := 44 }) (va_Pc [.ref m0, .int p1] (tw_Pre dC dI cI cZ m0 ad sz σ)) (va_Qi (fun r u => (r, u) = out) (tw_B dC dI cI cZ m0 ad) (tw_A m0 ad sz)) 0 0 (tw_A m0 ad sz) := by
  refine Met.ofW (cc := cX5_setFull) (maxL := 2) (ret := (some .boolean)) (by decide +kernel) rfl ?_
  intro p e s m args below meth c s₁ B hml hv
  obtain ⟨rfl, hsz, hP, hK, hD0⟩ := hv
  have hx := B.exec
  have hb := B.bytes
  have hr := B.returns
  have hts := atoms_spec (ws := (ws_ yX5_setFull cX5_setFull 2 (some .boolean))) B.pre
  have hts : ∀ w ∈ lw_all, w.before _ s = true := fun w h => hts w (List.mem_cons_of_mem _ h)
  have hown : s.vm.findClass RX5 = some m.cls := findClass_of_methodNamed B.named
  have hlocks := B.notSynchronized
  subst hsz
  have hD := tw_Ds (z := s.heap.size) hD0
  have hAA := fun z (h : s.heap.size ≤ z) => tw_Am (m0 := m0) (ad := ad) h
  generalize hAe : tw_A m0 ad s.heap.size = A at hD hAA ⊢
  have hS : va_S A s.heap s.heap [] := va_S.rf
  have hP : va_P (dC, dI) vwCl (tw_ws m0 ad cI cZ σ) s.heap := hP
  have hl := lv_entry ([.ref m0, .int p1]) (n := 2) (Nat.le_of_ble_eq_true rfl)
  rw [lg_entry_eq]
  generalize (lg_sl ([.ref m0, .int p1]) ++ List.replicate (2 - (lg_sl ([.ref m0, .int p1])).length) Slot.unset).toArray = ls at hl ⊢
  have hl : lv_has ls 2 [(0, .ref m0), (1, .int p1)] := hl
  unfold F_setFull at hF
  refine lv_aload_n hx hb dX5_setFull_0 rfl (lv_at hl 0 rfl) ?_
  refine lv_iconst (v := 0) hx hb dX5_setFull_1 (by decide) ?_
  refine va_put (D := (dC, dI)) (ci := 0) (v := .int 0) (ty := .int) (C := RX5) (T := TX5) (N := 28) hx hb hts in_X5 tyX5 tyX5_ok nmX5 hown hK hP hD hS 0 tw_g rfl 6 (by decide) (hts _ q1992) (fun _ h9 => h9) rfl (tyX5_ok 6 (by decide)) rfl rfl (Nat.le_of_ble_eq_true rfl) dX5_setFull_2 (fun H locs hP hD hS => ?_)
  rw [tw_p6] at hP hD
  refine lv_aload_n hx hb dX5_setFull_5 rfl (lv_at hl 0 rfl) ?_
  refine lv_iconst (v := 4) hx hb dX5_setFull_6 (by decide) ?_
  refine lv_iload_n hx hb dX5_setFull_7 rfl (lv_at hl 1 rfl) ?_
  refine lv_if_eq (tgt := 15) hx hb dX5_setFull_8 (by decide) (fun c1 => ?_) (fun c1 => ?_)
  · replace hF := it_t c1 hF
    refine lv_iconst (v := 0) hx hb dX5_setFull_15 (by decide) ?_
    obtain ⟨r2, u2, e2, hF⟩ := bnd_s hF
    refine tw_calli (va_runV (As := [.int 4, .int 0]) (rest := []) ⟨hx, hb, hml, hown, hts⟩ (mt_sets l dC dI cI cZ m0 ad H.size (tw_sf σ 6 0) n  4 0 _ e2) (cwV 2 hts (lw_V q2209 q2211 qs62 q125 q2212) rfl rfl rfl (by decide +kernel) ⟨Nat.le_of_ble_eq_true rfl, Nat.le_of_ble_eq_true rfl⟩) (tw_preV hK hP hD _) rfl rfl hl.1 rfl (lv_room (Nat.le_of_ble_eq_true rfl)) dX5_setFull_16 ⟨Nat.le_of_ble_eq_true rfl, Nat.le_of_ble_eq_true rfl⟩) hS hD hAA (fun rr uu H locs hw hP hD hS => ?_)
    obtain rfl : r2 = rr := (congrArg Prod.fst hw).symm
    obtain rfl : u2 = uu := (congrArg Prod.snd hw).symm
    refine lv_iconst (v := 1) hx hb dX5_setFull_19 (by decide) ?_
    refine lv_icmp_ne (tgt := 27) hx hb dX5_setFull_20 (by decide) (fun c3 => ?_) (fun c3 => ?_)
    · replace hF := it_f c3 hF
      refine lv_iconst (v := 0) hx hb dX5_setFull_27 (by decide) ?_
      exact W.zret (v := 0) hx hb hr rfl (fun t ht hW => ⟨⟨0, u2, rfl, Option.some.inj hF, by rw [ht]; exact hP, va_K.moved hW.alike hK⟩, hS.F ht⟩) hS.2.2 dX5_setFull_28
    · replace hF := it_t c3 hF
      refine lv_iconst (v := 1) hx hb dX5_setFull_23 (by decide) ?_
      refine lv_goto (tgt := 28) hx hb dX5_setFull_24 (by decide) ?_
      exact W.zret (v := 1) hx hb hr rfl (fun t ht hW => ⟨⟨1, u2, rfl, Option.some.inj hF, by rw [ht]; exact hP, va_K.moved hW.alike hK⟩, hS.F ht⟩) hS.2.2 dX5_setFull_28
  · replace hF := it_f c1 hF
    refine lv_iconst (v := 1) hx hb dX5_setFull_11 (by decide) ?_
    refine lv_goto (tgt := 16) hx hb dX5_setFull_12 (by decide) ?_
    obtain ⟨r4, u4, e4, hF⟩ := bnd_s hF
    refine tw_calli (va_runV (As := [.int 4, .int 1]) (rest := []) ⟨hx, hb, hml, hown, hts⟩ (mt_sets l dC dI cI cZ m0 ad H.size (tw_sf σ 6 0) n  4 1 _ e4) (cwV 2 hts (lw_V q2209 q2211 qs62 q125 q2212) rfl rfl rfl (by decide +kernel) ⟨Nat.le_of_ble_eq_true rfl, Nat.le_of_ble_eq_true rfl⟩) (tw_preV hK hP hD _) rfl rfl hl.1 rfl (lv_room (Nat.le_of_ble_eq_true rfl)) dX5_setFull_16 ⟨Nat.le_of_ble_eq_true rfl, Nat.le_of_ble_eq_true rfl⟩) hS hD hAA (fun rr uu H locs hw hP hD hS => ?_)
    obtain rfl : r4 = rr := (congrArg Prod.fst hw).symm
    obtain rfl : u4 = uu := (congrArg Prod.snd hw).symm
    refine lv_iconst (v := 1) hx hb dX5_setFull_19 (by decide) ?_
    refine lv_icmp_ne (tgt := 27) hx hb dX5_setFull_20 (by decide) (fun c5 => ?_) (fun c5 => ?_)
    · replace hF := it_f c5 hF
      refine lv_iconst (v := 0) hx hb dX5_setFull_27 (by decide) ?_
      exact W.zret (v := 0) hx hb hr rfl (fun t ht hW => ⟨⟨0, u4, rfl, Option.some.inj hF, by rw [ht]; exact hP, va_K.moved hW.alike hK⟩, hS.F ht⟩) hS.2.2 dX5_setFull_28
    · replace hF := it_t c5 hF
      refine lv_iconst (v := 1) hx hb dX5_setFull_23 (by decide) ?_
      refine lv_goto (tgt := 28) hx hb dX5_setFull_24 (by decide) ?_
      exact W.zret (v := 1) hx hb hr rfl (fun t ht hW => ⟨⟨1, u4, rfl, Option.some.inj hF, by rw [ht]; exact hP, va_K.moved hW.alike hK⟩, hS.F ht⟩) hS.2.2 dX5_setFull_28
