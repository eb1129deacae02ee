/-! the reference's methods, walked by program (tool/cw.py): F_ the pure function, mt_ the contract -/
def F_wayOf (σ : Tw) (p1 : Int32) (p2 : Int32) : Option (Int32 × Tw) := gd (inB ((98 + (8 * p1)) + p2) 162) (some (((σ).2 0 (((98 + (8 * p1)) + p2)).toNatClampNeg), σ))
set_option maxHeartbeats 4000000 in
set_option maxRecDepth 100000 in
theorem mt_wayOf (l : Launch) (dC : Nat → ClassId) (dI : Nat → Nat → Nat) (cI cZ : ClassId) (m0 : Nat) (ad : Nat → Nat) (sz : Nat) (σ : Tw)  (p1 : Int32) (p2 : Int32) (out : Int32 × Tw) (hF : F_wayOf σ p1 p2 = some out) : Met l yX5_wayOf (ws_ yX5_wayOf cX5_wayOf 3 (some .int)) ({ frames := 0, cells := 0, slots := 0, locals := 0 }) (va_Pc [.ref m0, .int p1, .int p2] (tw_Pre dC dI cI cZ m0 ad sz σ)) (va_Qi (fun r u => (r, u) = out) (tw_B dC dI cI cZ m0 ad) (tw_A m0 ad sz)) 0 0 (tw_A m0 ad sz) := by
  refine Met.ofW (cc := cX5_wayOf) (maxL := 3) (ret := (some .int)) (by decide +kernel) rfl ?_
  intro p e s m args below meth c s₁ B hml hv
  obtain ⟨rfl, hsz, hP, hK, hD0⟩ := hv
  have hx := B.exec
  have hb := B.bytes
  have hr := B.returns
  have hts := atoms_spec (ws := (ws_ yX5_wayOf cX5_wayOf 3 (some .int))) B.pre
  have hts : ∀ w ∈ lw_all, w.before _ s = true := fun w h => hts w (List.mem_cons_of_mem _ h)
  have hown : s.vm.findClass RX5 = some m.cls := findClass_of_methodNamed B.named
  have hlocks := B.notSynchronized
  subst hsz
  have hD := tw_Ds (z := s.heap.size) hD0
  have hAA := fun z (h : s.heap.size ≤ z) => tw_Am (m0 := m0) (ad := ad) h
  generalize hAe : tw_A m0 ad s.heap.size = A at hD hAA ⊢
  have hS : va_S A s.heap s.heap [] := va_S.rf
  have hP : va_P (dC, dI) vwCl (tw_ws m0 ad cI cZ σ) s.heap := hP
  have hl := lv_entry ([.ref m0, .int p1, .int p2]) (n := 3) (Nat.le_of_ble_eq_true rfl)
  rw [lg_entry_eq]
  generalize (lg_sl ([.ref m0, .int p1, .int p2]) ++ List.replicate (3 - (lg_sl ([.ref m0, .int p1, .int p2])).length) Slot.unset).toArray = ls at hl ⊢
  have hl : lv_has ls 3 [(0, .ref m0), (1, .int p1), (2, .int p2)] := hl
  unfold F_wayOf at hF
  refine lv_aload_n hx hb dX5_wayOf_0 rfl (lv_at hl 0 rfl) ?_
  refine va_get (D := (dC, dI)) (ci := 0) (v := .ref (ad 0)) (C := RX5) (T := TX5) (N := 28) hx hb hts in_X5 hown hK hP 0 tw_g rfl 0 (by decide) (hts _ q1986) (fun _ h9 => h9) rfl dX5_wayOf_1 ?_
  refine lv_bipush (v := 98) hx hb dX5_wayOf_4 (by decide) ?_
  refine lv_bipush (v := 8) hx hb dX5_wayOf_6 (by decide) ?_
  refine lv_iload_n hx hb dX5_wayOf_8 rfl (lv_at hl 1 rfl) ?_
  refine lv_imul hx hb dX5_wayOf_9 ?_
  refine lv_iadd hx hb dX5_wayOf_10 ?_
  refine lv_iload_n hx hb dX5_wayOf_11 rfl (lv_at hl 2 rfl) ?_
  refine lv_iadd hx hb dX5_wayOf_12 ?_
  obtain ⟨g1, hF⟩ := gd_s hF
  refine va_iald hx hb hK hP 1 0 tw_e0 rfl (inB_in g1) dX5_wayOf_13 ?_
  exact W.iret (v := ((σ).2 0 (((98 + (8 * p1)) + p2)).toNatClampNeg)) hx hb hr (fun t ht hW => ⟨⟨((σ).2 0 (((98 + (8 * p1)) + p2)).toNatClampNeg), σ, rfl, Option.some.inj hF, by rw [ht]; exact hP, va_K.moved hW.alike hK⟩, hS.F ht⟩) hS.2.2 dX5_wayOf_14

def F_productOf_1 (R : Nat → Tw → Int32 → Int32 → Int32 → Int32 → Option (Int32 × Tw)) (n : Nat) (σ : Tw) (x1 : Int32) (x2 : Int32) (x3 : Int32) (x4 : Int32) : Option (Int32 × Tw) := gd (inB 1 162) (if ((σ).2 0 (1 : Int32).toNatClampNeg) ≤ x4 then bnd (F_mod σ x3) (fun r3 u3 => some (r3, u3)) else bnd (F_wayOf σ x1 x4) (fun r4 u4 => bnd (F_wayOf u4 x2 x4) (fun r5 u5 => R 1 u5 x1 x2 (x3 + (r4 * r5)) (x4 + 1))))
def F_productOf_r : Nat → Nat → Tw → Int32 → Int32 → Int32 → Int32 → Option (Int32 × Tw)
  | 0 => fun _ _ _ _ _ _ => none
  | n + 1 => fun k => match k with  | _ => F_productOf_1 (F_productOf_r n) n
def F_productOf_0 (R : Nat → Tw → Int32 → Int32 → Int32 → Int32 → Option (Int32 × Tw)) (n : Nat) (σ : Tw) (p1 : Int32) (p2 : Int32) : Option (Int32 × Tw) := R 1 σ p1 p2 0 0
def F_productOf (n : Nat) (σ : Tw) (p1 : Int32) (p2 : Int32) : Option (Int32 × Tw) := F_productOf_0 (F_productOf_r n) n σ p1 p2
set_option maxHeartbeats 4000000 in
set_option maxRecDepth 100000 in
theorem mt_productOf (l : Launch) (dC : Nat → ClassId) (dI : Nat → Nat → Nat) (cI cZ : ClassId) (m0 : Nat) (ad : Nat → Nat) (sz : Nat) (σ : Tw) (n : Nat)  (p1 : Int32) (p2 : Int32) (out : Int32 × Tw) (hF : F_productOf n σ p1 p2 = some out) : Met l yX5_productOf (ws_ yX5_productOf cX5_productOf 5 (some .int)) ({ frames := 2, cells := 0, slots := 0, locals := 43 }) (va_Pc [.ref m0, .int p1, .int p2] (tw_Pre dC dI cI cZ m0 ad sz σ)) (va_Qi (fun r u => (r, u) = out) (tw_B dC dI cI cZ m0 ad) (tw_A m0 ad sz)) 0 0 (tw_A m0 ad sz) := by
  refine Met.ofW (cc := cX5_productOf) (maxL := 5) (ret := (some .int)) (by decide +kernel) rfl ?_
  intro p e s m args below meth c s₁ B hml hv
  obtain ⟨rfl, hsz, hP, hK, hD0⟩ := hv
  have hx := B.exec
  have hb := B.bytes
  have hr := B.returns
  have hts := atoms_spec (ws := (ws_ yX5_productOf cX5_productOf 5 (some .int))) B.pre
  have hts : ∀ w ∈ lw_all, w.before _ s = true := fun w h => hts w (List.mem_cons_of_mem _ h)
  have hown : s.vm.findClass RX5 = some m.cls := findClass_of_methodNamed B.named
  have hlocks := B.notSynchronized
  subst hsz
  have hD := tw_Ds (z := s.heap.size) hD0
  have hAA := fun z (h : s.heap.size ≤ z) => tw_Am (m0 := m0) (ad := ad) h
  generalize hAe : tw_A m0 ad s.heap.size = A at hD hAA ⊢
  have hS : va_S A s.heap s.heap [] := va_S.rf
  have hP : va_P (dC, dI) vwCl (tw_ws m0 ad cI cZ σ) s.heap := hP
  have hl := lv_entry ([.ref m0, .int p1, .int p2]) (n := 5) (Nat.le_of_ble_eq_true rfl)
  rw [lg_entry_eq]
  generalize (lg_sl ([.ref m0, .int p1, .int p2]) ++ List.replicate (5 - (lg_sl ([.ref m0, .int p1, .int p2])).length) Slot.unset).toArray = ls at hl ⊢
  have hl : lv_has ls 5 [(0, .ref m0), (1, .int p1), (2, .int p2)] := hl
  have loop : ∀ n : Nat, (∀ (σ : Tw) (x1 x2 x3 x4 : Int32), F_productOf_r n 1 σ x1 x2 x3 x4 = some out → ∀ (H : Heap) (locs : List Loc), va_P (dC, dI) vwCl (tw_ws m0 ad cI cZ σ) H → va_D A (tw_ws m0 ad cI cZ σ) → va_S A s.heap H locs → ∀ ls : Array Slot, lv_has ls 5 [(0, .ref m0), (1, .int x1), (2, .int x2), (3, .int x3), (4, .int x4)] → W p l e (headSpec (ws_ yX5_productOf cX5_productOf 5 (some .int)) ({ frames := 2, cells := 0, slots := 0, locals := 43 })).room s m ([.ref m0, .int p1, .int p2] : List Value).toArray below meth c H locs 0 0 (MQ below (va_Qi (fun r u => (r, u) = out) (tw_B dC dI cI cZ m0 ad) A) ([.ref m0, .int p1, .int p2] : List Value).toArray s 0 0 A) (F0 m 5 ls [])) := by
    intro n
    induction n with
    | zero => exact (fun _ _ _ _ _ h => nomatch h)
    | succ n ih =>
      have lp1 := ih
      intro σ x1 x2 x3 x4 hF H locs hP hD hS ls hl
      replace hF : F_productOf_1 (F_productOf_r n) n σ x1 x2 x3 x4 = some out := hF
      unfold F_productOf_1 at hF
      refine lv_iload hx hb dX5_productOf_5 (lv_at hl 4 rfl) ?_
      refine lv_aload_n hx hb dX5_productOf_7 rfl (lv_at hl 0 rfl) ?_
      refine va_get (D := (dC, dI)) (ci := 0) (v := .ref (ad 0)) (C := RX5) (T := TX5) (N := 28) hx hb hts in_X5 hown hK hP 0 tw_g rfl 0 (by decide) (hts _ q1986) (fun _ h9 => h9) rfl dX5_productOf_8 ?_
      refine lv_iconst (v := 1) hx hb dX5_productOf_11 (by decide) ?_
      obtain ⟨g1, hF⟩ := gd_s hF
      refine va_iald hx hb hK hP 1 0 tw_e0 rfl (inB_in g1) dX5_productOf_12 ?_
      refine lv_icmp_ge (tgt := 40) hx hb dX5_productOf_13 (by decide) (fun c2 => ?_) (fun c2 => ?_)
      · replace hF := it_t c2 hF
        refine lv_aload_n hx hb dX5_productOf_40 rfl (lv_at hl 0 rfl) ?_
        refine lv_iload_n hx hb dX5_productOf_41 rfl (lv_at hl 3 rfl) ?_
        obtain ⟨r3, u3, e3, hF⟩ := bnd_s hF
        refine tw_calli (va_runV (As := [.int x3]) (rest := []) ⟨hx, hb, hml, hown, hts⟩ (mt_mod l dC dI cI cZ m0 ad H.size σ  x3 _ e3) (cwV 1 hts (lw_V q2253 q2255 qs70 q125 q2256) rfl rfl rfl (by decide +kernel) ⟨Nat.le_of_ble_eq_true rfl, Nat.le_of_ble_eq_true rfl⟩) (tw_preV hK hP hD _) rfl rfl hl.1 rfl (lv_room (Nat.le_of_ble_eq_true rfl)) dX5_productOf_42 ⟨Nat.le_of_ble_eq_true rfl, Nat.le_of_ble_eq_true rfl⟩) hS hD hAA (fun rr uu H locs hw hP hD hS => ?_)
        obtain rfl : r3 = rr := (congrArg Prod.fst hw).symm
        obtain rfl : u3 = uu := (congrArg Prod.snd hw).symm
        exact W.iret (v := r3) hx hb hr (fun t ht hW => ⟨⟨r3, u3, rfl, Option.some.inj hF, by rw [ht]; exact hP, va_K.moved hW.alike hK⟩, hS.F ht⟩) hS.2.2 dX5_productOf_45
      · replace hF := it_f c2 hF
        refine lv_iload_n hx hb dX5_productOf_16 rfl (lv_at hl 3 rfl) ?_
        refine lv_aload_n hx hb dX5_productOf_17 rfl (lv_at hl 0 rfl) ?_
        refine lv_iload_n hx hb dX5_productOf_18 rfl (lv_at hl 1 rfl) ?_
        refine lv_iload hx hb dX5_productOf_19 (lv_at hl 4 rfl) ?_
        obtain ⟨r4, u4, e4, hF⟩ := bnd_s hF
        refine tw_calli (va_runV (As := [.int x1, .int x4]) (rest := [.int x3]) ⟨hx, hb, hml, hown, hts⟩ (mt_wayOf l dC dI cI cZ m0 ad H.size σ  x1 x4 _ e4) (cwV 2 hts (lw_V q2245 q2247 qs68 q125 q2248) rfl rfl rfl (by decide +kernel) ⟨Nat.le_of_ble_eq_true rfl, Nat.le_of_ble_eq_true rfl⟩) (tw_preV hK hP hD _) rfl rfl hl.1 rfl (lv_room (Nat.le_of_ble_eq_true rfl)) dX5_productOf_21 ⟨Nat.le_of_ble_eq_true rfl, Nat.le_of_ble_eq_true rfl⟩) hS hD hAA (fun rr uu H locs hw hP hD hS => ?_)
        obtain rfl : r4 = rr := (congrArg Prod.fst hw).symm
        obtain rfl : u4 = uu := (congrArg Prod.snd hw).symm
        refine lv_aload_n hx hb dX5_productOf_24 rfl (lv_at hl 0 rfl) ?_
        refine lv_iload_n hx hb dX5_productOf_25 rfl (lv_at hl 2 rfl) ?_
        refine lv_iload hx hb dX5_productOf_26 (lv_at hl 4 rfl) ?_
        obtain ⟨r5, u5, e5, hF⟩ := bnd_s hF
        refine tw_calli (va_runV (As := [.int x2, .int x4]) (rest := [.int r4, .int x3]) ⟨hx, hb, hml, hown, hts⟩ (mt_wayOf l dC dI cI cZ m0 ad H.size u4  x2 x4 _ e5) (cwV 2 hts (lw_V q2245 q2247 qs68 q125 q2248) rfl rfl rfl (by decide +kernel) ⟨Nat.le_of_ble_eq_true rfl, Nat.le_of_ble_eq_true rfl⟩) (tw_preV hK hP hD _) rfl rfl hl.1 rfl (lv_room (Nat.le_of_ble_eq_true rfl)) dX5_productOf_28 ⟨Nat.le_of_ble_eq_true rfl, Nat.le_of_ble_eq_true rfl⟩) hS hD hAA (fun rr uu H locs hw hP hD hS => ?_)
        obtain rfl : r5 = rr := (congrArg Prod.fst hw).symm
        obtain rfl : u5 = uu := (congrArg Prod.snd hw).symm
        refine lv_imul hx hb dX5_productOf_31 ?_
        refine lv_iadd hx hb dX5_productOf_32 ?_
        refine lv_istore_n (lv' := [(3, .int (x3 + (r4 * r5))), (0, .ref m0), (1, .int x1), (2, .int x2), (4, .int x4)]) hx hb dX5_productOf_33 rfl hl (by decide) rfl (fun ls hl => ?_)
        refine lv_iinc (v := (x4 + 1)) (lv' := [(4, .int (x4 + 1)), (3, .int (x3 + (r4 * r5))), (0, .ref m0), (1, .int x1), (2, .int x2)]) hx hb dX5_productOf_34 hl (k := 4) rfl rfl (by decide) rfl (fun ls hl => ?_)
        refine lv_goto (tgt := 5) hx hb dX5_productOf_37 (by decide) ?_
        exact lp1 u5 x1 x2 (x3 + (r4 * r5)) (x4 + 1) hF _ _ hP hD hS ls (lv_sub hl [2, 3, 4, 1, 0] rfl)
  have lp1 := loop n
  unfold F_productOf F_productOf_0 at hF
  refine lv_iconst (v := 0) hx hb dX5_productOf_0 (by decide) ?_
  refine lv_istore_n (lv' := [(3, .int 0), (0, .ref m0), (1, .int p1), (2, .int p2)]) hx hb dX5_productOf_1 rfl hl (by decide) rfl (fun ls hl => ?_)
  refine lv_iconst (v := 0) hx hb dX5_productOf_2 (by decide) ?_
  refine lv_istore (lv' := [(4, .int 0), (3, .int 0), (0, .ref m0), (1, .int p1), (2, .int p2)]) hx hb dX5_productOf_3 hl (by decide) rfl (fun ls hl => ?_)
  exact lp1 σ p1 p2 0 0 hF _ _ hP hD hS ls (lv_sub hl [2, 3, 4, 1, 0] rfl)

def F_normOf (n : Nat) (σ : Tw) (p1 : Int32) : Option (Int32 × Tw) := bnd (F_productOf n σ p1 p1) (fun r1 u1 => some (r1, u1))
set_option maxHeartbeats 4000000 in
set_option maxRecDepth 100000 in
theorem mt_normOf (l : Launch) (dC : Nat → ClassId) (dI : Nat → Nat → Nat) (cI cZ : ClassId) (m0 : Nat) (ad : Nat → Nat) (sz : Nat) (σ : Tw) (n : Nat)  (p1 : Int32) (out : Int32 × Tw) (hF : F_normOf n σ p1 = some out) : Met l yX5_normOf (ws_ yX5_normOf cX5_normOf 2 (some .int)) ({ frames := 3, cells := 0, slots := 0, locals := 67 }) (va_Pc [.ref m0, .int p1] (tw_Pre dC dI cI cZ m0 ad sz σ)) (va_Qi (fun r u => (r, u) = out) (tw_B dC dI cI cZ m0 ad) (tw_A m0 ad sz)) 0 0 (tw_A m0 ad sz) := by
  refine Met.ofW (cc := cX5_normOf) (maxL := 2) (ret := (some .int)) (by decide +kernel) rfl ?_
  intro p e s m args below meth c s₁ B hml hv
  obtain ⟨rfl, hsz, hP, hK, hD0⟩ := hv
  have hx := B.exec
  have hb := B.bytes
  have hr := B.returns
  have hts := atoms_spec (ws := (ws_ yX5_normOf cX5_normOf 2 (some .int))) B.pre
  have hts : ∀ w ∈ lw_all, w.before _ s = true := fun w h => hts w (List.mem_cons_of_mem _ h)
  have hown : s.vm.findClass RX5 = some m.cls := findClass_of_methodNamed B.named
  have hlocks := B.notSynchronized
  subst hsz
  have hD := tw_Ds (z := s.heap.size) hD0
  have hAA := fun z (h : s.heap.size ≤ z) => tw_Am (m0 := m0) (ad := ad) h
  generalize hAe : tw_A m0 ad s.heap.size = A at hD hAA ⊢
  have hS : va_S A s.heap s.heap [] := va_S.rf
  have hP : va_P (dC, dI) vwCl (tw_ws m0 ad cI cZ σ) s.heap := hP
  have hl := lv_entry ([.ref m0, .int p1]) (n := 2) (Nat.le_of_ble_eq_true rfl)
  rw [lg_entry_eq]
  generalize (lg_sl ([.ref m0, .int p1]) ++ List.replicate (2 - (lg_sl ([.ref m0, .int p1])).length) Slot.unset).toArray = ls at hl ⊢
  have hl : lv_has ls 2 [(0, .ref m0), (1, .int p1)] := hl
  unfold F_normOf at hF
  refine lv_aload_n hx hb dX5_normOf_0 rfl (lv_at hl 0 rfl) ?_
  refine lv_iload_n hx hb dX5_normOf_1 rfl (lv_at hl 1 rfl) ?_
  refine lv_iload_n hx hb dX5_normOf_2 rfl (lv_at hl 1 rfl) ?_
  obtain ⟨r1, u1, e1, hF⟩ := bnd_s hF
  refine tw_calli (va_runV (As := [.int p1, .int p1]) (rest := []) ⟨hx, hb, hml, hown, hts⟩ (mt_productOf l dC dI cI cZ m0 ad s.heap.size σ n  p1 p1 _ e1) (cwV 2 hts (lw_V q2272 q2274 qs74 q125 q2275) rfl rfl rfl (by decide +kernel) ⟨Nat.le_of_ble_eq_true rfl, Nat.le_of_ble_eq_true rfl⟩) (tw_preV hK hP hD _) rfl rfl hl.1 rfl (lv_room (Nat.le_of_ble_eq_true rfl)) dX5_normOf_3 ⟨Nat.le_of_ble_eq_true rfl, Nat.le_of_ble_eq_true rfl⟩) hS hD hAA (fun rr uu H locs hw hP hD hS => ?_)
  obtain rfl : r1 = rr := (congrArg Prod.fst hw).symm
  obtain rfl : u1 = uu := (congrArg Prod.snd hw).symm
  exact W.iret (v := r1) hx hb hr (fun t ht hW => ⟨⟨r1, u1, rfl, Option.some.inj hF, by rw [ht]; exact hP, va_K.moved hW.alike hK⟩, hS.F ht⟩) hS.2.2 dX5_normOf_6

def F_multiplies_xy_1 (R : Nat → Tw → Int32 → Int32 → Int32 → Option (Int32 × Tw)) (n : Nat) (σ : Tw) (x3 : Int32) (x4 : Int32) (x5 : Int32) : Option (Int32 × Tw) := gd (inB 1 162) (if ((σ).2 0 (1 : Int32).toNatClampNeg) ≤ x3 then some (0, σ) else R 2 σ x3 0 0)
def F_multiplies_xy_2 (R : Nat → Tw → Int32 → Int32 → Int32 → Option (Int32 × Tw)) (n : Nat) (σ : Tw) (x3 : Int32) (x4 : Int32) (x5 : Int32) : Option (Int32 × Tw) := gd (inB 1 162) (if ((σ).2 0 (1 : Int32).toNatClampNeg) ≤ x5 then bnd (F_mod σ x4) (fun r5 u5 => gd (inB x3 8) (R 1 (tw_sa u5 18 (x3).toNatClampNeg r5) (x3 + 1) x4 x5)) else bnd (F_cellOf σ x3 x5) (fun r7 u7 => gd (inB x5 8) (R 2 u7 x3 (x4 + (r7 * ((u7).2 17 (x5).toNatClampNeg))) (x5 + 1))))
def F_multiplies_xy_r : Nat → Nat → Tw → Int32 → Int32 → Int32 → Option (Int32 × Tw)
  | 0 => fun _ _ _ _ _ => none
  | n + 1 => fun k => match k with | 1 => F_multiplies_xy_1 (F_multiplies_xy_r n) n | _ => F_multiplies_xy_2 (F_multiplies_xy_r n) n
def F_multiplies_xy_0 (R : Nat → Tw → Int32 → Int32 → Int32 → Option (Int32 × Tw)) (n : Nat) (σ : Tw) : Option (Int32 × Tw) := R 1 σ 0 0 0
def F_multiplies_xy (n : Nat) (σ : Tw) : Option (Int32 × Tw) := F_multiplies_xy_0 (F_multiplies_xy_r n) n σ 
set_option maxHeartbeats 4000000 in
set_option maxRecDepth 100000 in
theorem mt_multiplies_xy (l : Launch) (dC : Nat → ClassId) (dI : Nat → Nat → Nat) (cI cZ : ClassId) (m0 : Nat) (ad : Nat → Nat) (sz : Nat) (σ : Tw) (n : Nat)  (out : Int32 × Tw) (hF : F_multiplies_xy n σ  = some out) : Met l yX5_multiplies (ws_ yX5_multiplies cX5_multiplies 6 none) ({ frames := 2, cells := 0, slots := 0, locals := 43 }) (va_Pc [.ref m0, .ref (ad 17), .ref (ad 18)] (tw_Pre dC dI cI cZ m0 ad sz σ)) (va_Qv (fun u => (0, u) = out) (tw_B dC dI cI cZ m0 ad) (tw_A m0 ad sz)) 0 0 (tw_A m0 ad sz) := by
  refine Met.ofW (cc := cX5_multiplies) (maxL := 6) (ret := none) (by decide +kernel) rfl ?_
  intro p e s m args below meth c s₁ B hml hv
  obtain ⟨rfl, hsz, hP, hK, hD0⟩ := hv
  have hx := B.exec
  have hb := B.bytes
  have hr := B.returns
  have hts := atoms_spec (ws := (ws_ yX5_multiplies cX5_multiplies 6 none)) B.pre
  have hts : ∀ w ∈ lw_all, w.before _ s = true := fun w h => hts w (List.mem_cons_of_mem _ h)
  have hown : s.vm.findClass RX5 = some m.cls := findClass_of_methodNamed B.named
  have hlocks := B.notSynchronized
  subst hsz
  have hD := tw_Ds (z := s.heap.size) hD0
  have hAA := fun z (h : s.heap.size ≤ z) => tw_Am (m0 := m0) (ad := ad) h
  generalize hAe : tw_A m0 ad s.heap.size = A at hD hAA ⊢
  have hS : va_S A s.heap s.heap [] := va_S.rf
  have hP : va_P (dC, dI) vwCl (tw_ws m0 ad cI cZ σ) s.heap := hP
  have hl := lv_entry ([.ref m0, .ref (ad 17), .ref (ad 18)]) (n := 6) (Nat.le_of_ble_eq_true rfl)
  rw [lg_entry_eq]
  generalize (lg_sl ([.ref m0, .ref (ad 17), .ref (ad 18)]) ++ List.replicate (6 - (lg_sl ([.ref m0, .ref (ad 17), .ref (ad 18)])).length) Slot.unset).toArray = ls at hl ⊢
  have hl : lv_has ls 6 [(0, .ref m0), (1, .ref (ad 17)), (2, .ref (ad 18))] := hl
  have loop : ∀ n : Nat, (∀ (σ : Tw) (x3 x4 x5 : Int32), F_multiplies_xy_r n 1 σ x3 x4 x5 = some out → ∀ (H : Heap) (locs : List Loc), va_P (dC, dI) vwCl (tw_ws m0 ad cI cZ σ) H → va_D A (tw_ws m0 ad cI cZ σ) → va_S A s.heap H locs → ∀ ls : Array Slot, lv_has ls 6 [(0, .ref m0), (1, .ref (ad 17)), (2, .ref (ad 18)), (3, .int x3)] → W p l e (headSpec (ws_ yX5_multiplies cX5_multiplies 6 none) ({ frames := 2, cells := 0, slots := 0, locals := 43 })).room s m ([.ref m0, .ref (ad 17), .ref (ad 18)] : List Value).toArray below meth c H locs 0 0 (MQ below (va_Qv (fun u => (0, u) = out) (tw_B dC dI cI cZ m0 ad) A) ([.ref m0, .ref (ad 17), .ref (ad 18)] : List Value).toArray s 0 0 A) (F0 m 2 ls [])) ∧ (∀ (σ : Tw) (x3 x4 x5 : Int32), F_multiplies_xy_r n 2 σ x3 x4 x5 = some out → ∀ (H : Heap) (locs : List Loc), va_P (dC, dI) vwCl (tw_ws m0 ad cI cZ σ) H → va_D A (tw_ws m0 ad cI cZ σ) → va_S A s.heap H locs → ∀ ls : Array Slot, lv_has ls 6 [(0, .ref m0), (1, .ref (ad 17)), (2, .ref (ad 18)), (3, .int x3), (4, .int x4), (5, .int x5)] → W p l e (headSpec (ws_ yX5_multiplies cX5_multiplies 6 none) ({ frames := 2, cells := 0, slots := 0, locals := 43 })).room s m ([.ref m0, .ref (ad 17), .ref (ad 18)] : List Value).toArray below meth c H locs 0 0 (MQ below (va_Qv (fun u => (0, u) = out) (tw_B dC dI cI cZ m0 ad) A) ([.ref m0, .ref (ad 17), .ref (ad 18)] : List Value).toArray s 0 0 A) (F0 m 18 ls [])) := by
    intro n
    induction n with
    | zero => exact ⟨(fun _ _ _ _ h => nomatch h), (fun _ _ _ _ h => nomatch h)⟩
    | succ n ih =>
      obtain ⟨lp1, lp2⟩ := ih
      refine ⟨?_, ?_⟩
      · intro σ x3 x4 x5 hF H locs hP hD hS ls hl
        replace hF : F_multiplies_xy_1 (F_multiplies_xy_r n) n σ x3 x4 x5 = some out := hF
        unfold F_multiplies_xy_1 at hF
        refine lv_iload_n hx hb dX5_multiplies_2 rfl (lv_at hl 3 rfl) ?_
        refine lv_aload_n hx hb dX5_multiplies_3 rfl (lv_at hl 0 rfl) ?_
        refine va_get (D := (dC, dI)) (ci := 0) (v := .ref (ad 0)) (C := RX5) (T := TX5) (N := 28) hx hb hts in_X5 hown hK hP 0 tw_g rfl 0 (by decide) (hts _ q1986) (fun _ h9 => h9) rfl dX5_multiplies_4 ?_
        refine lv_iconst (v := 1) hx hb dX5_multiplies_7 (by decide) ?_
        obtain ⟨g1, hF⟩ := gd_s hF
        refine va_iald hx hb hK hP 1 0 tw_e0 rfl (inB_in g1) dX5_multiplies_8 ?_
        refine lv_icmp_ge (tgt := 67) hx hb dX5_multiplies_9 (by decide) (fun c2 => ?_) (fun c2 => ?_)
        · replace hF := it_t c2 hF
          exact W.vret hx hb hr (fun t ht hW => ⟨⟨σ, rfl, Option.some.inj hF, by rw [ht]; exact hP, va_K.moved hW.alike hK⟩, hS.F ht⟩) hS.2.2 dX5_multiplies_67
        · replace hF := it_f c2 hF
          refine lv_iconst (v := 0) hx hb dX5_multiplies_12 (by decide) ?_
          refine lv_istore (lv' := [(4, .int 0), (0, .ref m0), (1, .ref (ad 17)), (2, .ref (ad 18)), (3, .int x3)]) hx hb dX5_multiplies_13 hl (by decide) rfl (fun ls hl => ?_)
          refine lv_iconst (v := 0) hx hb dX5_multiplies_15 (by decide) ?_
          refine lv_istore (lv' := [(5, .int 0), (4, .int 0), (0, .ref m0), (1, .ref (ad 17)), (2, .ref (ad 18)), (3, .int x3)]) hx hb dX5_multiplies_16 hl (by decide) rfl (fun ls hl => ?_)
          exact lp2 σ x3 0 0 hF _ _ hP hD hS ls (lv_sub hl [2, 3, 4, 5, 1, 0] rfl)
      · intro σ x3 x4 x5 hF H locs hP hD hS ls hl
        replace hF : F_multiplies_xy_2 (F_multiplies_xy_r n) n σ x3 x4 x5 = some out := hF
        unfold F_multiplies_xy_2 at hF
        refine lv_iload hx hb dX5_multiplies_18 (lv_at hl 5 rfl) ?_
        refine lv_aload_n hx hb dX5_multiplies_20 rfl (lv_at hl 0 rfl) ?_
        refine va_get (D := (dC, dI)) (ci := 0) (v := .ref (ad 0)) (C := RX5) (T := TX5) (N := 28) hx hb hts in_X5 hown hK hP 0 tw_g rfl 0 (by decide) (hts _ q1986) (fun _ h9 => h9) rfl dX5_multiplies_21 ?_
        refine lv_iconst (v := 1) hx hb dX5_multiplies_24 (by decide) ?_
        obtain ⟨g3, hF⟩ := gd_s hF
        refine va_iald hx hb hK hP 1 0 tw_e0 rfl (inB_in g3) dX5_multiplies_25 ?_
        refine lv_icmp_ge (tgt := 52) hx hb dX5_multiplies_26 (by decide) (fun c4 => ?_) (fun c4 => ?_)
        · replace hF := it_t c4 hF
          refine lv_aload_n hx hb dX5_multiplies_52 rfl (lv_at hl 2 rfl) ?_
          refine lv_iload_n hx hb dX5_multiplies_53 rfl (lv_at hl 3 rfl) ?_
          refine lv_aload_n hx hb dX5_multiplies_54 rfl (lv_at hl 0 rfl) ?_
          refine lv_iload hx hb dX5_multiplies_55 (lv_at hl 4 rfl) ?_
          obtain ⟨r5, u5, e5, hF⟩ := bnd_s hF
          refine tw_calli (va_runV (As := [.int x4]) (rest := [.int x3, .ref (ad 18)]) ⟨hx, hb, hml, hown, hts⟩ (mt_mod l dC dI cI cZ m0 ad H.size σ  x4 _ e5) (cwV 1 hts (lw_V q2253 q2255 qs70 q125 q2256) rfl rfl rfl (by decide +kernel) ⟨Nat.le_of_ble_eq_true rfl, Nat.le_of_ble_eq_true rfl⟩) (tw_preV hK hP hD _) rfl rfl hl.1 rfl (lv_room (Nat.le_of_ble_eq_true rfl)) dX5_multiplies_57 ⟨Nat.le_of_ble_eq_true rfl, Nat.le_of_ble_eq_true rfl⟩) hS hD hAA (fun rr uu H locs hw hP hD hS => ?_)
          obtain rfl : r5 = rr := (congrArg Prod.fst hw).symm
          obtain rfl : u5 = uu := (congrArg Prod.snd hw).symm
          obtain ⟨g6, hF⟩ := gd_s hF
          refine va_iast hx hb hK hP hD hS 8 0 tw_e18 rfl (x := r5) (inB_in g6) dX5_multiplies_60 (fun H locs hP hD hS => ?_)
          rw [tw_s18] at hP hD
          refine lv_iinc (v := (x3 + 1)) (lv' := [(3, .int (x3 + 1)), (0, .ref m0), (1, .ref (ad 17)), (2, .ref (ad 18)), (4, .int x4), (5, .int x5)]) hx hb dX5_multiplies_61 hl (k := 3) rfl rfl (by decide) rfl (fun ls hl => ?_)
          refine lv_goto (tgt := 2) hx hb dX5_multiplies_64 (by decide) ?_
          exact lp1 (tw_sa u5 18 (x3).toNatClampNeg r5) (x3 + 1) x4 x5 hF _ _ hP hD hS ls (lv_sub hl [1, 2, 3, 0] rfl)
        · replace hF := it_f c4 hF
          refine lv_iload hx hb dX5_multiplies_29 (lv_at hl 4 rfl) ?_
          refine lv_aload_n hx hb dX5_multiplies_31 rfl (lv_at hl 0 rfl) ?_
          refine lv_iload_n hx hb dX5_multiplies_32 rfl (lv_at hl 3 rfl) ?_
          refine lv_iload hx hb dX5_multiplies_33 (lv_at hl 5 rfl) ?_
          obtain ⟨r7, u7, e7, hF⟩ := bnd_s hF
          refine tw_calli (va_runV (As := [.int x3, .int x5]) (rest := [.int x4]) ⟨hx, hb, hml, hown, hts⟩ (mt_cellOf l dC dI cI cZ m0 ad H.size σ  x3 x5 _ e7) (cwV 2 hts (lw_V q2181 q2183 qs59 q125 q2184) rfl rfl rfl (by decide +kernel) ⟨Nat.le_of_ble_eq_true rfl, Nat.le_of_ble_eq_true rfl⟩) (tw_preV hK hP hD _) rfl rfl hl.1 rfl (lv_room (Nat.le_of_ble_eq_true rfl)) dX5_multiplies_35 ⟨Nat.le_of_ble_eq_true rfl, Nat.le_of_ble_eq_true rfl⟩) hS hD hAA (fun rr uu H locs hw hP hD hS => ?_)
          obtain rfl : r7 = rr := (congrArg Prod.fst hw).symm
          obtain rfl : u7 = uu := (congrArg Prod.snd hw).symm
          refine lv_aload_n hx hb dX5_multiplies_38 rfl (lv_at hl 1 rfl) ?_
          refine lv_iload hx hb dX5_multiplies_39 (lv_at hl 5 rfl) ?_
          obtain ⟨g8, hF⟩ := gd_s hF
          refine va_iald hx hb hK hP 7 0 tw_e17 rfl (inB_in g8) dX5_multiplies_41 ?_
          refine lv_imul hx hb dX5_multiplies_42 ?_
          refine lv_iadd hx hb dX5_multiplies_43 ?_
          refine lv_istore (lv' := [(4, .int (x4 + (r7 * ((u7).2 17 (x5).toNatClampNeg)))), (0, .ref m0), (1, .ref (ad 17)), (2, .ref (ad 18)), (3, .int x3), (5, .int x5)]) hx hb dX5_multiplies_44 hl (by decide) rfl (fun ls hl => ?_)
          refine lv_iinc (v := (x5 + 1)) (lv' := [(5, .int (x5 + 1)), (4, .int (x4 + (r7 * ((u7).2 17 (x5).toNatClampNeg)))), (0, .ref m0), (1, .ref (ad 17)), (2, .ref (ad 18)), (3, .int x3)]) hx hb dX5_multiplies_46 hl (k := 5) rfl rfl (by decide) rfl (fun ls hl => ?_)
          refine lv_goto (tgt := 18) hx hb dX5_multiplies_49 (by decide) ?_
          exact lp2 u7 x3 (x4 + (r7 * ((u7).2 17 (x5).toNatClampNeg))) (x5 + 1) hF _ _ hP hD hS ls (lv_sub hl [2, 3, 4, 5, 1, 0] rfl)
  obtain ⟨lp1, lp2⟩ := loop n
  unfold F_multiplies_xy F_multiplies_xy_0 at hF
  refine lv_iconst (v := 0) hx hb dX5_multiplies_0 (by decide) ?_
  refine lv_istore_n (lv' := [(3, .int 0), (0, .ref m0), (1, .ref (ad 17)), (2, .ref (ad 18))]) hx hb dX5_multiplies_1 rfl hl (by decide) rfl (fun ls hl => ?_)
  exact lp1 σ 0 0 0 hF _ _ hP hD hS ls (lv_sub hl [1, 2, 3, 0] rfl)

def F_lays_x_1 (R : Nat → Tw → Int32 → Int32 → Option (Int32 × Tw)) (n : Nat) (σ : Tw) (x1 : Int32) (x3 : Int32) : Option (Int32 × Tw) := gd (inB 1 162) (if ((σ).2 0 (1 : Int32).toNatClampNeg) ≤ x3 then some (0, σ) else bnd (F_wayOf σ x1 x3) (fun r3 u3 => gd (inB x3 8) (R 1 (tw_sa u3 17 (x3).toNatClampNeg r3) x1 (x3 + 1))))
def F_lays_x_r : Nat → Nat → Tw → Int32 → Int32 → Option (Int32 × Tw)
  | 0 => fun _ _ _ _ => none
  | n + 1 => fun k => match k with  | _ => F_lays_x_1 (F_lays_x_r n) n
def F_lays_x_0 (R : Nat → Tw → Int32 → Int32 → Option (Int32 × Tw)) (n : Nat) (σ : Tw) (p1 : Int32) : Option (Int32 × Tw) := R 1 σ p1 0
def F_lays_x (n : Nat) (σ : Tw) (p1 : Int32) : Option (Int32 × Tw) := F_lays_x_0 (F_lays_x_r n) n σ p1
set_option maxHeartbeats 4000000 in
set_option maxRecDepth 100000 in
theorem mt_lays_x (l : Launch) (dC : Nat → ClassId) (dI : Nat → Nat → Nat) (cI cZ : ClassId) (m0 : Nat) (ad : Nat → Nat) (sz : Nat) (σ : Tw) (n : Nat)  (p1 : Int32) (out : Int32 × Tw) (hF : F_lays_x n σ p1 = some out) : Met l yX5_lays (ws_ yX5_lays cX5_lays 4 none) ({ frames := 1, cells := 0, slots := 0, locals := 22 }) (va_Pc [.ref m0, .int p1, .ref (ad 17)] (tw_Pre dC dI cI cZ m0 ad sz σ)) (va_Qv (fun u => (0, u) = out) (tw_B dC dI cI cZ m0 ad) (tw_A m0 ad sz)) 0 0 (tw_A m0 ad sz) := by
  refine Met.ofW (cc := cX5_lays) (maxL := 4) (ret := none) (by decide +kernel) rfl ?_
  intro p e s m args below meth c s₁ B hml hv
  obtain ⟨rfl, hsz, hP, hK, hD0⟩ := hv
  have hx := B.exec
  have hb := B.bytes
  have hr := B.returns
  have hts := atoms_spec (ws := (ws_ yX5_lays cX5_lays 4 none)) B.pre
  have hts : ∀ w ∈ lw_all, w.before _ s = true := fun w h => hts w (List.mem_cons_of_mem _ h)
  have hown : s.vm.findClass RX5 = some m.cls := findClass_of_methodNamed B.named
  have hlocks := B.notSynchronized
  subst hsz
  have hD := tw_Ds (z := s.heap.size) hD0
  have hAA := fun z (h : s.heap.size ≤ z) => tw_Am (m0 := m0) (ad := ad) h
  generalize hAe : tw_A m0 ad s.heap.size = A at hD hAA ⊢
  have hS : va_S A s.heap s.heap [] := va_S.rf
  have hP : va_P (dC, dI) vwCl (tw_ws m0 ad cI cZ σ) s.heap := hP
  have hl := lv_entry ([.ref m0, .int p1, .ref (ad 17)]) (n := 4) (Nat.le_of_ble_eq_true rfl)
  rw [lg_entry_eq]
  generalize (lg_sl ([.ref m0, .int p1, .ref (ad 17)]) ++ List.replicate (4 - (lg_sl ([.ref m0, .int p1, .ref (ad 17)])).length) Slot.unset).toArray = ls at hl ⊢
  have hl : lv_has ls 4 [(0, .ref m0), (1, .int p1), (2, .ref (ad 17))] := hl
  have loop : ∀ n : Nat, (∀ (σ : Tw) (x1 x3 : Int32), F_lays_x_r n 1 σ x1 x3 = some out → ∀ (H : Heap) (locs : List Loc), va_P (dC, dI) vwCl (tw_ws m0 ad cI cZ σ) H → va_D A (tw_ws m0 ad cI cZ σ) → va_S A s.heap H locs → ∀ ls : Array Slot, lv_has ls 4 [(0, .ref m0), (1, .int x1), (2, .ref (ad 17)), (3, .int x3)] → W p l e (headSpec (ws_ yX5_lays cX5_lays 4 none) ({ frames := 1, cells := 0, slots := 0, locals := 22 })).room s m ([.ref m0, .int p1, .ref (ad 17)] : List Value).toArray below meth c H locs 0 0 (MQ below (va_Qv (fun u => (0, u) = out) (tw_B dC dI cI cZ m0 ad) A) ([.ref m0, .int p1, .ref (ad 17)] : List Value).toArray s 0 0 A) (F0 m 2 ls [])) := by
    intro n
    induction n with
    | zero => exact (fun _ _ _ h => nomatch h)
    | succ n ih =>
      have lp1 := ih
      intro σ x1 x3 hF H locs hP hD hS ls hl
      replace hF : F_lays_x_1 (F_lays_x_r n) n σ x1 x3 = some out := hF
      unfold F_lays_x_1 at hF
      refine lv_iload_n hx hb dX5_lays_2 rfl (lv_at hl 3 rfl) ?_
      refine lv_aload_n hx hb dX5_lays_3 rfl (lv_at hl 0 rfl) ?_
      refine va_get (D := (dC, dI)) (ci := 0) (v := .ref (ad 0)) (C := RX5) (T := TX5) (N := 28) hx hb hts in_X5 hown hK hP 0 tw_g rfl 0 (by decide) (hts _ q1986) (fun _ h9 => h9) rfl dX5_lays_4 ?_
      refine lv_iconst (v := 1) hx hb dX5_lays_7 (by decide) ?_
      obtain ⟨g1, hF⟩ := gd_s hF
      refine va_iald hx hb hK hP 1 0 tw_e0 rfl (inB_in g1) dX5_lays_8 ?_
      refine lv_icmp_ge (tgt := 27) hx hb dX5_lays_9 (by decide) (fun c2 => ?_) (fun c2 => ?_)
      · replace hF := it_t c2 hF
        exact W.vret hx hb hr (fun t ht hW => ⟨⟨σ, rfl, Option.some.inj hF, by rw [ht]; exact hP, va_K.moved hW.alike hK⟩, hS.F ht⟩) hS.2.2 dX5_lays_27
      · replace hF := it_f c2 hF
        refine lv_aload_n hx hb dX5_lays_12 rfl (lv_at hl 2 rfl) ?_
        refine lv_iload_n hx hb dX5_lays_13 rfl (lv_at hl 3 rfl) ?_
        refine lv_aload_n hx hb dX5_lays_14 rfl (lv_at hl 0 rfl) ?_
        refine lv_iload_n hx hb dX5_lays_15 rfl (lv_at hl 1 rfl) ?_
        refine lv_iload_n hx hb dX5_lays_16 rfl (lv_at hl 3 rfl) ?_
        obtain ⟨r3, u3, e3, hF⟩ := bnd_s hF
        refine tw_calli (va_runV (As := [.int x1, .int x3]) (rest := [.int x3, .ref (ad 17)]) ⟨hx, hb, hml, hown, hts⟩ (mt_wayOf l dC dI cI cZ m0 ad H.size σ  x1 x3 _ e3) (cwV 2 hts (lw_V q2245 q2247 qs68 q125 q2248) rfl rfl rfl (by decide +kernel) ⟨Nat.le_of_ble_eq_true rfl, Nat.le_of_ble_eq_true rfl⟩) (tw_preV hK hP hD _) rfl rfl hl.1 rfl (lv_room (Nat.le_of_ble_eq_true rfl)) dX5_lays_17 ⟨Nat.le_of_ble_eq_true rfl, Nat.le_of_ble_eq_true rfl⟩) hS hD hAA (fun rr uu H locs hw hP hD hS => ?_)
        obtain rfl : r3 = rr := (congrArg Prod.fst hw).symm
        obtain rfl : u3 = uu := (congrArg Prod.snd hw).symm
        obtain ⟨g4, hF⟩ := gd_s hF
        refine va_iast hx hb hK hP hD hS 7 0 tw_e17 rfl (x := r3) (inB_in g4) dX5_lays_20 (fun H locs hP hD hS => ?_)
        rw [tw_s17] at hP hD
        refine lv_iinc (v := (x3 + 1)) (lv' := [(3, .int (x3 + 1)), (0, .ref m0), (1, .int x1), (2, .ref (ad 17))]) hx hb dX5_lays_21 hl (k := 3) rfl rfl (by decide) rfl (fun ls hl => ?_)
        refine lv_goto (tgt := 2) hx hb dX5_lays_24 (by decide) ?_
        exact lp1 (tw_sa u3 17 (x3).toNatClampNeg r3) x1 (x3 + 1) hF _ _ hP hD hS ls (lv_sub hl [1, 2, 3, 0] rfl)
  have lp1 := loop n
  unfold F_lays_x F_lays_x_0 at hF
  refine lv_iconst (v := 0) hx hb dX5_lays_0 (by decide) ?_
  refine lv_istore_n (lv' := [(3, .int 0), (0, .ref m0), (1, .int p1), (2, .ref (ad 17))]) hx hb dX5_lays_1 rfl hl (by decide) rfl (fun ls hl => ?_)
  exact lp1 σ p1 0 hF _ _ hP hD hS ls (lv_sub hl [1, 2, 3, 0] rfl)

def F_partOf_x_1 (R : Nat → Tw → Int32 → Int32 → Int32 → Option (Int32 × Tw)) (n : Nat) (σ : Tw) (x2 : Int32) (x3 : Int32) (x4 : Int32) : Option (Int32 × Tw) := gd (inB 1 162) (if ((σ).2 0 (1 : Int32).toNatClampNeg) ≤ x4 then bnd (F_mod σ x3) (fun r3 u3 => bnd (F_normOf n u3 x2) (fun r4 u4 => bnd (F_quotient n u4 r3 r4) (fun r5 u5 => some (r5, u5)))) else gd (inB x4 8) (bnd (F_wayOf σ x2 x4) (fun r7 u7 => R 1 u7 x2 (x3 + (((σ).2 17 (x4).toNatClampNeg) * r7)) (x4 + 1))))
def F_partOf_x_r : Nat → Nat → Tw → Int32 → Int32 → Int32 → Option (Int32 × Tw)
  | 0 => fun _ _ _ _ _ => none
  | n + 1 => fun k => match k with  | _ => F_partOf_x_1 (F_partOf_x_r n) n
def F_partOf_x_0 (R : Nat → Tw → Int32 → Int32 → Int32 → Option (Int32 × Tw)) (n : Nat) (σ : Tw) (p2 : Int32) : Option (Int32 × Tw) := R 1 σ p2 0 0
def F_partOf_x (n : Nat) (σ : Tw) (p2 : Int32) : Option (Int32 × Tw) := F_partOf_x_0 (F_partOf_x_r n) n σ p2
set_option maxHeartbeats 4000000 in
set_option maxRecDepth 100000 in
theorem mt_partOf_x (l : Launch) (dC : Nat → ClassId) (dI : Nat → Nat → Nat) (cI cZ : ClassId) (m0 : Nat) (ad : Nat → Nat) (sz : Nat) (σ : Tw) (n : Nat)  (p2 : Int32) (out : Int32 × Tw) (hF : F_partOf_x n σ p2 = some out) : Met l yX5_partOf (ws_ yX5_partOf cX5_partOf 5 (some .int)) ({ frames := 4, cells := 0, slots := 0, locals := 88 }) (va_Pc [.ref m0, .ref (ad 17), .int p2] (tw_Pre dC dI cI cZ m0 ad sz σ)) (va_Qi (fun r u => (r, u) = out) (tw_B dC dI cI cZ m0 ad) (tw_A m0 ad sz)) 0 0 (tw_A m0 ad sz) := by
  refine Met.ofW (cc := cX5_partOf) (maxL := 5) (ret := (some .int)) (by decide +kernel) rfl ?_
  intro p e s m args below meth c s₁ B hml hv
  obtain ⟨rfl, hsz, hP, hK, hD0⟩ := hv
  have hx := B.exec
  have hb := B.bytes
  have hr := B.returns
  have hts := atoms_spec (ws := (ws_ yX5_partOf cX5_partOf 5 (some .int))) B.pre
  have hts : ∀ w ∈ lw_all, w.before _ s = true := fun w h => hts w (List.mem_cons_of_mem _ h)
  have hown : s.vm.findClass RX5 = some m.cls := findClass_of_methodNamed B.named
  have hlocks := B.notSynchronized
  subst hsz
  have hD := tw_Ds (z := s.heap.size) hD0
  have hAA := fun z (h : s.heap.size ≤ z) => tw_Am (m0 := m0) (ad := ad) h
  generalize hAe : tw_A m0 ad s.heap.size = A at hD hAA ⊢
  have hS : va_S A s.heap s.heap [] := va_S.rf
  have hP : va_P (dC, dI) vwCl (tw_ws m0 ad cI cZ σ) s.heap := hP
  have hl := lv_entry ([.ref m0, .ref (ad 17), .int p2]) (n := 5) (Nat.le_of_ble_eq_true rfl)
  rw [lg_entry_eq]
  generalize (lg_sl ([.ref m0, .ref (ad 17), .int p2]) ++ List.replicate (5 - (lg_sl ([.ref m0, .ref (ad 17), .int p2])).length) Slot.unset).toArray = ls at hl ⊢
  have hl : lv_has ls 5 [(0, .ref m0), (1, .ref (ad 17)), (2, .int p2)] := hl
  have loop : ∀ n : Nat, (∀ (σ : Tw) (x2 x3 x4 : Int32), F_partOf_x_r n 1 σ x2 x3 x4 = some out → ∀ (H : Heap) (locs : List Loc), va_P (dC, dI) vwCl (tw_ws m0 ad cI cZ σ) H → va_D A (tw_ws m0 ad cI cZ σ) → va_S A s.heap H locs → ∀ ls : Array Slot, lv_has ls 5 [(0, .ref m0), (1, .ref (ad 17)), (2, .int x2), (3, .int x3), (4, .int x4)] → W p l e (headSpec (ws_ yX5_partOf cX5_partOf 5 (some .int)) ({ frames := 4, cells := 0, slots := 0, locals := 88 })).room s m ([.ref m0, .ref (ad 17), .int p2] : List Value).toArray below meth c H locs 0 0 (MQ below (va_Qi (fun r u => (r, u) = out) (tw_B dC dI cI cZ m0 ad) A) ([.ref m0, .ref (ad 17), .int p2] : List Value).toArray s 0 0 A) (F0 m 5 ls [])) := by
    intro n
    induction n with
    | zero => exact (fun _ _ _ _ h => nomatch h)
    | succ n ih =>
      have lp1 := ih
      intro σ x2 x3 x4 hF H locs hP hD hS ls hl
      replace hF : F_partOf_x_1 (F_partOf_x_r n) n σ x2 x3 x4 = some out := hF
      unfold F_partOf_x_1 at hF
      refine lv_iload hx hb dX5_partOf_5 (lv_at hl 4 rfl) ?_
      refine lv_aload_n hx hb dX5_partOf_7 rfl (lv_at hl 0 rfl) ?_
      refine va_get (D := (dC, dI)) (ci := 0) (v := .ref (ad 0)) (C := RX5) (T := TX5) (N := 28) hx hb hts in_X5 hown hK hP 0 tw_g rfl 0 (by decide) (hts _ q1986) (fun _ h9 => h9) rfl dX5_partOf_8 ?_
      refine lv_iconst (v := 1) hx hb dX5_partOf_11 (by decide) ?_
      obtain ⟨g1, hF⟩ := gd_s hF
      refine va_iald hx hb hK hP 1 0 tw_e0 rfl (inB_in g1) dX5_partOf_12 ?_
      refine lv_icmp_ge (tgt := 37) hx hb dX5_partOf_13 (by decide) (fun c2 => ?_) (fun c2 => ?_)
      · replace hF := it_t c2 hF
        refine lv_aload_n hx hb dX5_partOf_37 rfl (lv_at hl 0 rfl) ?_
        refine lv_aload_n hx hb dX5_partOf_38 rfl (lv_at hl 0 rfl) ?_
        refine lv_iload_n hx hb dX5_partOf_39 rfl (lv_at hl 3 rfl) ?_
        obtain ⟨r3, u3, e3, hF⟩ := bnd_s hF
        refine tw_calli (va_runV (As := [.int x3]) (rest := [.ref m0]) ⟨hx, hb, hml, hown, hts⟩ (mt_mod l dC dI cI cZ m0 ad H.size σ  x3 _ e3) (cwV 1 hts (lw_V q2253 q2255 qs70 q125 q2256) rfl rfl rfl (by decide +kernel) ⟨Nat.le_of_ble_eq_true rfl, Nat.le_of_ble_eq_true rfl⟩) (tw_preV hK hP hD _) rfl rfl hl.1 rfl (lv_room (Nat.le_of_ble_eq_true rfl)) dX5_partOf_40 ⟨Nat.le_of_ble_eq_true rfl, Nat.le_of_ble_eq_true rfl⟩) hS hD hAA (fun rr uu H locs hw hP hD hS => ?_)
        obtain rfl : r3 = rr := (congrArg Prod.fst hw).symm
        obtain rfl : u3 = uu := (congrArg Prod.snd hw).symm
        refine lv_aload_n hx hb dX5_partOf_43 rfl (lv_at hl 0 rfl) ?_
        refine lv_iload_n hx hb dX5_partOf_44 rfl (lv_at hl 2 rfl) ?_
        obtain ⟨r4, u4, e4, hF⟩ := bnd_s hF
        refine tw_calli (va_runV (As := [.int x2]) (rest := [.int r3, .ref m0]) ⟨hx, hb, hml, hown, hts⟩ (mt_normOf l dC dI cI cZ m0 ad H.size u3 n  x2 _ e4) (cwV 1 hts (lw_V q2268 q2270 qs73 q125 q2271) rfl rfl rfl (by decide +kernel) ⟨Nat.le_of_ble_eq_true rfl, Nat.le_of_ble_eq_true rfl⟩) (tw_preV hK hP hD _) rfl rfl hl.1 rfl (lv_room (Nat.le_of_ble_eq_true rfl)) dX5_partOf_45 ⟨Nat.le_of_ble_eq_true rfl, Nat.le_of_ble_eq_true rfl⟩) hS hD hAA (fun rr uu H locs hw hP hD hS => ?_)
        obtain rfl : r4 = rr := (congrArg Prod.fst hw).symm
        obtain rfl : u4 = uu := (congrArg Prod.snd hw).symm
        obtain ⟨r5, u5, e5, hF⟩ := bnd_s hF
        refine tw_calli (va_runV (As := [.int r3, .int r4]) (rest := []) ⟨hx, hb, hml, hown, hts⟩ (mt_quotient l dC dI cI cZ m0 ad H.size u4 n  r3 r4 _ e5) (cwV 2 hts (lw_V q2276 q2278 qs75 q125 q2279) rfl rfl rfl (by decide +kernel) ⟨Nat.le_of_ble_eq_true rfl, Nat.le_of_ble_eq_true rfl⟩) (tw_preV hK hP hD _) rfl rfl hl.1 rfl (lv_room (Nat.le_of_ble_eq_true rfl)) dX5_partOf_48 ⟨Nat.le_of_ble_eq_true rfl, Nat.le_of_ble_eq_true rfl⟩) hS hD hAA (fun rr uu H locs hw hP hD hS => ?_)
        obtain rfl : r5 = rr := (congrArg Prod.fst hw).symm
        obtain rfl : u5 = uu := (congrArg Prod.snd hw).symm
        exact W.iret (v := r5) hx hb hr (fun t ht hW => ⟨⟨r5, u5, rfl, Option.some.inj hF, by rw [ht]; exact hP, va_K.moved hW.alike hK⟩, hS.F ht⟩) hS.2.2 dX5_partOf_51
      · replace hF := it_f c2 hF
        refine lv_iload_n hx hb dX5_partOf_16 rfl (lv_at hl 3 rfl) ?_
        refine lv_aload_n hx hb dX5_partOf_17 rfl (lv_at hl 1 rfl) ?_
        refine lv_iload hx hb dX5_partOf_18 (lv_at hl 4 rfl) ?_
        obtain ⟨g6, hF⟩ := gd_s hF
        refine va_iald hx hb hK hP 7 0 tw_e17 rfl (inB_in g6) dX5_partOf_20 ?_
        refine lv_aload_n hx hb dX5_partOf_21 rfl (lv_at hl 0 rfl) ?_
        refine lv_iload_n hx hb dX5_partOf_22 rfl (lv_at hl 2 rfl) ?_
        refine lv_iload hx hb dX5_partOf_23 (lv_at hl 4 rfl) ?_
        obtain ⟨r7, u7, e7, hF⟩ := bnd_s hF
        refine tw_calli (va_runV (As := [.int x2, .int x4]) (rest := [.int ((σ).2 17 (x4).toNatClampNeg), .int x3]) ⟨hx, hb, hml, hown, hts⟩ (mt_wayOf l dC dI cI cZ m0 ad H.size σ  x2 x4 _ e7) (cwV 2 hts (lw_V q2245 q2247 qs68 q125 q2248) rfl rfl rfl (by decide +kernel) ⟨Nat.le_of_ble_eq_true rfl, Nat.le_of_ble_eq_true rfl⟩) (tw_preV hK hP hD _) rfl rfl hl.1 rfl (lv_room (Nat.le_of_ble_eq_true rfl)) dX5_partOf_25 ⟨Nat.le_of_ble_eq_true rfl, Nat.le_of_ble_eq_true rfl⟩) hS hD hAA (fun rr uu H locs hw hP hD hS => ?_)
        obtain rfl : r7 = rr := (congrArg Prod.fst hw).symm
        obtain rfl : u7 = uu := (congrArg Prod.snd hw).symm
        refine lv_imul hx hb dX5_partOf_28 ?_
        refine lv_iadd hx hb dX5_partOf_29 ?_
        refine lv_istore_n (lv' := [(3, .int (x3 + (((σ).2 17 (x4).toNatClampNeg) * r7))), (0, .ref m0), (1, .ref (ad 17)), (2, .int x2), (4, .int x4)]) hx hb dX5_partOf_30 rfl hl (by decide) rfl (fun ls hl => ?_)
        refine lv_iinc (v := (x4 + 1)) (lv' := [(4, .int (x4 + 1)), (3, .int (x3 + (((σ).2 17 (x4).toNatClampNeg) * r7))), (0, .ref m0), (1, .ref (ad 17)), (2, .int x2)]) hx hb dX5_partOf_31 hl (k := 4) rfl rfl (by decide) rfl (fun ls hl => ?_)
        refine lv_goto (tgt := 5) hx hb dX5_partOf_34 (by decide) ?_
        exact lp1 u7 x2 (x3 + (((σ).2 17 (x4).toNatClampNeg) * r7)) (x4 + 1) hF _ _ hP hD hS ls (lv_sub hl [2, 3, 4, 1, 0] rfl)
  have lp1 := loop n
  unfold F_partOf_x F_partOf_x_0 at hF
  refine lv_iconst (v := 0) hx hb dX5_partOf_0 (by decide) ?_
  refine lv_istore_n (lv' := [(3, .int 0), (0, .ref m0), (1, .ref (ad 17)), (2, .int p2)]) hx hb dX5_partOf_1 rfl hl (by decide) rfl (fun ls hl => ?_)
  refine lv_iconst (v := 0) hx hb dX5_partOf_2 (by decide) ?_
  refine lv_istore (lv' := [(4, .int 0), (3, .int 0), (0, .ref m0), (1, .ref (ad 17)), (2, .int p2)]) hx hb dX5_partOf_3 hl (by decide) rfl (fun ls hl => ?_)
  exact lp1 σ p2 0 0 hF _ _ hP hD hS ls (lv_sub hl [2, 3, 4, 1, 0] rfl)

def F_partOf_y_1 (R : Nat → Tw → Int32 → Int32 → Int32 → Option (Int32 × Tw)) (n : Nat) (σ : Tw) (x2 : Int32) (x3 : Int32) (x4 : Int32) : Option (Int32 × Tw) := gd (inB 1 162) (if ((σ).2 0 (1 : Int32).toNatClampNeg) ≤ x4 then bnd (F_mod σ x3) (fun r3 u3 => bnd (F_normOf n u3 x2) (fun r4 u4 => bnd (F_quotient n u4 r3 r4) (fun r5 u5 => some (r5, u5)))) else gd (inB x4 8) (bnd (F_wayOf σ x2 x4) (fun r7 u7 => R 1 u7 x2 (x3 + (((σ).2 18 (x4).toNatClampNeg) * r7)) (x4 + 1))))
def F_partOf_y_r : Nat → Nat → Tw → Int32 → Int32 → Int32 → Option (Int32 × Tw)
  | 0 => fun _ _ _ _ _ => none
  | n + 1 => fun k => match k with  | _ => F_partOf_y_1 (F_partOf_y_r n) n
def F_partOf_y_0 (R : Nat → Tw → Int32 → Int32 → Int32 → Option (Int32 × Tw)) (n : Nat) (σ : Tw) (p2 : Int32) : Option (Int32 × Tw) := R 1 σ p2 0 0
def F_partOf_y (n : Nat) (σ : Tw) (p2 : Int32) : Option (Int32 × Tw) := F_partOf_y_0 (F_partOf_y_r n) n σ p2
set_option maxHeartbeats 4000000 in
set_option maxRecDepth 100000 in
theorem mt_partOf_y (l : Launch) (dC : Nat → ClassId) (dI : Nat → Nat → Nat) (cI cZ : ClassId) (m0 : Nat) (ad : Nat → Nat) (sz : Nat) (σ : Tw) (n : Nat)  (p2 : Int32) (out : Int32 × Tw) (hF : F_partOf_y n σ p2 = some out) : Met l yX5_partOf (ws_ yX5_partOf cX5_partOf 5 (some .int)) ({ frames := 4, cells := 0, slots := 0, locals := 88 }) (va_Pc [.ref m0, .ref (ad 18), .int p2] (tw_Pre dC dI cI cZ m0 ad sz σ)) (va_Qi (fun r u => (r, u) = out) (tw_B dC dI cI cZ m0 ad) (tw_A m0 ad sz)) 0 0 (tw_A m0 ad sz) := by
  refine Met.ofW (cc := cX5_partOf) (maxL := 5) (ret := (some .int)) (by decide +kernel) rfl ?_
  intro p e s m args below meth c s₁ B hml hv
  obtain ⟨rfl, hsz, hP, hK, hD0⟩ := hv
  have hx := B.exec
  have hb := B.bytes
  have hr := B.returns
  have hts := atoms_spec (ws := (ws_ yX5_partOf cX5_partOf 5 (some .int))) B.pre
  have hts : ∀ w ∈ lw_all, w.before _ s = true := fun w h => hts w (List.mem_cons_of_mem _ h)
  have hown : s.vm.findClass RX5 = some m.cls := findClass_of_methodNamed B.named
  have hlocks := B.notSynchronized
  subst hsz
  have hD := tw_Ds (z := s.heap.size) hD0
  have hAA := fun z (h : s.heap.size ≤ z) => tw_Am (m0 := m0) (ad := ad) h
  generalize hAe : tw_A m0 ad s.heap.size = A at hD hAA ⊢
  have hS : va_S A s.heap s.heap [] := va_S.rf
  have hP : va_P (dC, dI) vwCl (tw_ws m0 ad cI cZ σ) s.heap := hP
  have hl := lv_entry ([.ref m0, .ref (ad 18), .int p2]) (n := 5) (Nat.le_of_ble_eq_true rfl)
  rw [lg_entry_eq]
  generalize (lg_sl ([.ref m0, .ref (ad 18), .int p2]) ++ List.replicate (5 - (lg_sl ([.ref m0, .ref (ad 18), .int p2])).length) Slot.unset).toArray = ls at hl ⊢
  have hl : lv_has ls 5 [(0, .ref m0), (1, .ref (ad 18)), (2, .int p2)] := hl
  have loop : ∀ n : Nat, (∀ (σ : Tw) (x2 x3 x4 : Int32), F_partOf_y_r n 1 σ x2 x3 x4 = some out → ∀ (H : Heap) (locs : List Loc), va_P (dC, dI) vwCl (tw_ws m0 ad cI cZ σ) H → va_D A (tw_ws m0 ad cI cZ σ) → va_S A s.heap H locs → ∀ ls : Array Slot, lv_has ls 5 [(0, .ref m0), (1, .ref (ad 18)), (2, .int x2), (3, .int x3), (4, .int x4)] → W p l e (headSpec (ws_ yX5_partOf cX5_partOf 5 (some .int)) ({ frames := 4, cells := 0, slots := 0, locals := 88 })).room s m ([.ref m0, .ref (ad 18), .int p2] : List Value).toArray below meth c H locs 0 0 (MQ below (va_Qi (fun r u => (r, u) = out) (tw_B dC dI cI cZ m0 ad) A) ([.ref m0, .ref (ad 18), .int p2] : List Value).toArray s 0 0 A) (F0 m 5 ls [])) := by
    intro n
    induction n with
    | zero => exact (fun _ _ _ _ h => nomatch h)
    | succ n ih =>
      have lp1 := ih
      intro σ x2 x3 x4 hF H locs hP hD hS ls hl
      replace hF : F_partOf_y_1 (F_partOf_y_r n) n σ x2 x3 x4 = some out := hF
      unfold F_partOf_y_1 at hF
      refine lv_iload hx hb dX5_partOf_5 (lv_at hl 4 rfl) ?_
      refine lv_aload_n hx hb dX5_partOf_7 rfl (lv_at hl 0 rfl) ?_
      refine va_get (D := (dC, dI)) (ci := 0) (v := .ref (ad 0)) (C := RX5) (T := TX5) (N := 28) hx hb hts in_X5 hown hK hP 0 tw_g rfl 0 (by decide) (hts _ q1986) (fun _ h9 => h9) rfl dX5_partOf_8 ?_
      refine lv_iconst (v := 1) hx hb dX5_partOf_11 (by decide) ?_
      obtain ⟨g1, hF⟩ := gd_s hF
      refine va_iald hx hb hK hP 1 0 tw_e0 rfl (inB_in g1) dX5_partOf_12 ?_
      refine lv_icmp_ge (tgt := 37) hx hb dX5_partOf_13 (by decide) (fun c2 => ?_) (fun c2 => ?_)
      · replace hF := it_t c2 hF
        refine lv_aload_n hx hb dX5_partOf_37 rfl (lv_at hl 0 rfl) ?_
        refine lv_aload_n hx hb dX5_partOf_38 rfl (lv_at hl 0 rfl) ?_
        refine lv_iload_n hx hb dX5_partOf_39 rfl (lv_at hl 3 rfl) ?_
        obtain ⟨r3, u3, e3, hF⟩ := bnd_s hF
        refine tw_calli (va_runV (As := [.int x3]) (rest := [.ref m0]) ⟨hx, hb, hml, hown, hts⟩ (mt_mod l dC dI cI cZ m0 ad H.size σ  x3 _ e3) (cwV 1 hts (lw_V q2253 q2255 qs70 q125 q2256) rfl rfl rfl (by decide +kernel) ⟨Nat.le_of_ble_eq_true rfl, Nat.le_of_ble_eq_true rfl⟩) (tw_preV hK hP hD _) rfl rfl hl.1 rfl (lv_room (Nat.le_of_ble_eq_true rfl)) dX5_partOf_40 ⟨Nat.le_of_ble_eq_true rfl, Nat.le_of_ble_eq_true rfl⟩) hS hD hAA (fun rr uu H locs hw hP hD hS => ?_)
        obtain rfl : r3 = rr := (congrArg Prod.fst hw).symm
        obtain rfl : u3 = uu := (congrArg Prod.snd hw).symm
        refine lv_aload_n hx hb dX5_partOf_43 rfl (lv_at hl 0 rfl) ?_
        refine lv_iload_n hx hb dX5_partOf_44 rfl (lv_at hl 2 rfl) ?_
        obtain ⟨r4, u4, e4, hF⟩ := bnd_s hF
        refine tw_calli (va_runV (As := [.int x2]) (rest := [.int r3, .ref m0]) ⟨hx, hb, hml, hown, hts⟩ (mt_normOf l dC dI cI cZ m0 ad H.size u3 n  x2 _ e4) (cwV 1 hts (lw_V q2268 q2270 qs73 q125 q2271) rfl rfl rfl (by decide +kernel) ⟨Nat.le_of_ble_eq_true rfl, Nat.le_of_ble_eq_true rfl⟩) (tw_preV hK hP hD _) rfl rfl hl.1 rfl (lv_room (Nat.le_of_ble_eq_true rfl)) dX5_partOf_45 ⟨Nat.le_of_ble_eq_true rfl, Nat.le_of_ble_eq_true rfl⟩) hS hD hAA (fun rr uu H locs hw hP hD hS => ?_)
        obtain rfl : r4 = rr := (congrArg Prod.fst hw).symm
        obtain rfl : u4 = uu := (congrArg Prod.snd hw).symm
        obtain ⟨r5, u5, e5, hF⟩ := bnd_s hF
        refine tw_calli (va_runV (As := [.int r3, .int r4]) (rest := []) ⟨hx, hb, hml, hown, hts⟩ (mt_quotient l dC dI cI cZ m0 ad H.size u4 n  r3 r4 _ e5) (cwV 2 hts (lw_V q2276 q2278 qs75 q125 q2279) rfl rfl rfl (by decide +kernel) ⟨Nat.le_of_ble_eq_true rfl, Nat.le_of_ble_eq_true rfl⟩) (tw_preV hK hP hD _) rfl rfl hl.1 rfl (lv_room (Nat.le_of_ble_eq_true rfl)) dX5_partOf_48 ⟨Nat.le_of_ble_eq_true rfl, Nat.le_of_ble_eq_true rfl⟩) hS hD hAA (fun rr uu H locs hw hP hD hS => ?_)
        obtain rfl : r5 = rr := (congrArg Prod.fst hw).symm
        obtain rfl : u5 = uu := (congrArg Prod.snd hw).symm
        exact W.iret (v := r5) hx hb hr (fun t ht hW => ⟨⟨r5, u5, rfl, Option.some.inj hF, by rw [ht]; exact hP, va_K.moved hW.alike hK⟩, hS.F ht⟩) hS.2.2 dX5_partOf_51
      · replace hF := it_f c2 hF
        refine lv_iload_n hx hb dX5_partOf_16 rfl (lv_at hl 3 rfl) ?_
        refine lv_aload_n hx hb dX5_partOf_17 rfl (lv_at hl 1 rfl) ?_
        refine lv_iload hx hb dX5_partOf_18 (lv_at hl 4 rfl) ?_
        obtain ⟨g6, hF⟩ := gd_s hF
        refine va_iald hx hb hK hP 8 0 tw_e18 rfl (inB_in g6) dX5_partOf_20 ?_
        refine lv_aload_n hx hb dX5_partOf_21 rfl (lv_at hl 0 rfl) ?_
        refine lv_iload_n hx hb dX5_partOf_22 rfl (lv_at hl 2 rfl) ?_
        refine lv_iload hx hb dX5_partOf_23 (lv_at hl 4 rfl) ?_
        obtain ⟨r7, u7, e7, hF⟩ := bnd_s hF
        refine tw_calli (va_runV (As := [.int x2, .int x4]) (rest := [.int ((σ).2 18 (x4).toNatClampNeg), .int x3]) ⟨hx, hb, hml, hown, hts⟩ (mt_wayOf l dC dI cI cZ m0 ad H.size σ  x2 x4 _ e7) (cwV 2 hts (lw_V q2245 q2247 qs68 q125 q2248) rfl rfl rfl (by decide +kernel) ⟨Nat.le_of_ble_eq_true rfl, Nat.le_of_ble_eq_true rfl⟩) (tw_preV hK hP hD _) rfl rfl hl.1 rfl (lv_room (Nat.le_of_ble_eq_true rfl)) dX5_partOf_25 ⟨Nat.le_of_ble_eq_true rfl, Nat.le_of_ble_eq_true rfl⟩) hS hD hAA (fun rr uu H locs hw hP hD hS => ?_)
        obtain rfl : r7 = rr := (congrArg Prod.fst hw).symm
        obtain rfl : u7 = uu := (congrArg Prod.snd hw).symm
        refine lv_imul hx hb dX5_partOf_28 ?_
        refine lv_iadd hx hb dX5_partOf_29 ?_
        refine lv_istore_n (lv' := [(3, .int (x3 + (((σ).2 18 (x4).toNatClampNeg) * r7))), (0, .ref m0), (1, .ref (ad 18)), (2, .int x2), (4, .int x4)]) hx hb dX5_partOf_30 rfl hl (by decide) rfl (fun ls hl => ?_)
        refine lv_iinc (v := (x4 + 1)) (lv' := [(4, .int (x4 + 1)), (3, .int (x3 + (((σ).2 18 (x4).toNatClampNeg) * r7))), (0, .ref m0), (1, .ref (ad 18)), (2, .int x2)]) hx hb dX5_partOf_31 hl (k := 4) rfl rfl (by decide) rfl (fun ls hl => ?_)
        refine lv_goto (tgt := 5) hx hb dX5_partOf_34 (by decide) ?_
        exact lp1 u7 x2 (x3 + (((σ).2 18 (x4).toNatClampNeg) * r7)) (x4 + 1) hF _ _ hP hD hS ls (lv_sub hl [2, 3, 4, 1, 0] rfl)
  have lp1 := loop n
  unfold F_partOf_y F_partOf_y_0 at hF
  refine lv_iconst (v := 0) hx hb dX5_partOf_0 (by decide) ?_
  refine lv_istore_n (lv' := [(3, .int 0), (0, .ref m0), (1, .ref (ad 18)), (2, .int p2)]) hx hb dX5_partOf_1 rfl hl (by decide) rfl (fun ls hl => ?_)
  refine lv_iconst (v := 0) hx hb dX5_partOf_2 (by decide) ?_
  refine lv_istore (lv' := [(4, .int 0), (3, .int 0), (0, .ref m0), (1, .ref (ad 18)), (2, .int p2)]) hx hb dX5_partOf_3 hl (by decide) rfl (fun ls hl => ?_)
  exact lp1 σ p2 0 0 hF _ _ hP hD hS ls (lv_sub hl [2, 3, 4, 1, 0] rfl)

def F_takesAway_c_1 (R : Nat → Tw → Int32 → Int32 → Int32 → Option (Int32 × Tw)) (n : Nat) (σ : Tw) (x2 : Int32) (x3 : Int32) (x4 : Int32) : Option (Int32 × Tw) := gd (inB 1 162) (if ((σ).2 0 (1 : Int32).toNatClampNeg) ≤ x4 then some (0, σ) else gd (inB x4 8) (bnd (F_wayOf σ x3 x4) (fun r4 u4 => bnd (F_mod u4 (((σ).2 19 (x4).toNatClampNeg) - (x2 * r4))) (fun r5 u5 => gd (inB x4 8) (R 1 (tw_sa u5 19 (x4).toNatClampNeg r5) x2 x3 (x4 + 1))))))
def F_takesAway_c_r : Nat → Nat → Tw → Int32 → Int32 → Int32 → Option (Int32 × Tw)
  | 0 => fun _ _ _ _ _ => none
  | n + 1 => fun k => match k with  | _ => F_takesAway_c_1 (F_takesAway_c_r n) n
def F_takesAway_c_0 (R : Nat → Tw → Int32 → Int32 → Int32 → Option (Int32 × Tw)) (n : Nat) (σ : Tw) (p2 : Int32) (p3 : Int32) : Option (Int32 × Tw) := R 1 σ p2 p3 0
def F_takesAway_c (n : Nat) (σ : Tw) (p2 : Int32) (p3 : Int32) : Option (Int32 × Tw) := F_takesAway_c_0 (F_takesAway_c_r n) n σ p2 p3
set_option maxHeartbeats 4000000 in
set_option maxRecDepth 100000 in
theorem mt_takesAway_c (l : Launch) (dC : Nat → ClassId) (dI : Nat → Nat → Nat) (cI cZ : ClassId) (m0 : Nat) (ad : Nat → Nat) (sz : Nat) (σ : Tw) (n : Nat)  (p2 : Int32) (p3 : Int32) (out : Int32 × Tw) (hF : F_takesAway_c n σ p2 p3 = some out) : Met l yX5_takesAway (ws_ yX5_takesAway cX5_takesAway 5 none) ({ frames := 2, cells := 0, slots := 0, locals := 43 }) (va_Pc [.ref m0, .ref (ad 19), .int p2, .int p3] (tw_Pre dC dI cI cZ m0 ad sz σ)) (va_Qv (fun u => (0, u) = out) (tw_B dC dI cI cZ m0 ad) (tw_A m0 ad sz)) 0 0 (tw_A m0 ad sz) := by
  refine Met.ofW (cc := cX5_takesAway) (maxL := 5) (ret := none) (by decide +kernel) rfl ?_
  intro p e s m args below meth c s₁ B hml hv
  obtain ⟨rfl, hsz, hP, hK, hD0⟩ := hv
  have hx := B.exec
  have hb := B.bytes
  have hr := B.returns
  have hts := atoms_spec (ws := (ws_ yX5_takesAway cX5_takesAway 5 none)) B.pre
  have hts : ∀ w ∈ lw_all, w.before _ s = true := fun w h => hts w (List.mem_cons_of_mem _ h)
  have hown : s.vm.findClass RX5 = some m.cls := findClass_of_methodNamed B.named
  have hlocks := B.notSynchronized
  subst hsz
  have hD := tw_Ds (z := s.heap.size) hD0
  have hAA := fun z (h : s.heap.size ≤ z) => tw_Am (m0 := m0) (ad := ad) h
  generalize hAe : tw_A m0 ad s.heap.size = A at hD hAA ⊢
  have hS : va_S A s.heap s.heap [] := va_S.rf
  have hP : va_P (dC, dI) vwCl (tw_ws m0 ad cI cZ σ) s.heap := hP
  have hl := lv_entry ([.ref m0, .ref (ad 19), .int p2, .int p3]) (n := 5) (Nat.le_of_ble_eq_true rfl)
  rw [lg_entry_eq]
  generalize (lg_sl ([.ref m0, .ref (ad 19), .int p2, .int p3]) ++ List.replicate (5 - (lg_sl ([.ref m0, .ref (ad 19), .int p2, .int p3])).length) Slot.unset).toArray = ls at hl ⊢
  have hl : lv_has ls 5 [(0, .ref m0), (1, .ref (ad 19)), (2, .int p2), (3, .int p3)] := hl
  have loop : ∀ n : Nat, (∀ (σ : Tw) (x2 x3 x4 : Int32), F_takesAway_c_r n 1 σ x2 x3 x4 = some out → ∀ (H : Heap) (locs : List Loc), va_P (dC, dI) vwCl (tw_ws m0 ad cI cZ σ) H → va_D A (tw_ws m0 ad cI cZ σ) → va_S A s.heap H locs → ∀ ls : Array Slot, lv_has ls 5 [(0, .ref m0), (1, .ref (ad 19)), (2, .int x2), (3, .int x3), (4, .int x4)] → W p l e (headSpec (ws_ yX5_takesAway cX5_takesAway 5 none) ({ frames := 2, cells := 0, slots := 0, locals := 43 })).room s m ([.ref m0, .ref (ad 19), .int p2, .int p3] : List Value).toArray below meth c H locs 0 0 (MQ below (va_Qv (fun u => (0, u) = out) (tw_B dC dI cI cZ m0 ad) A) ([.ref m0, .ref (ad 19), .int p2, .int p3] : List Value).toArray s 0 0 A) (F0 m 3 ls [])) := by
    intro n
    induction n with
    | zero => exact (fun _ _ _ _ h => nomatch h)
    | succ n ih =>
      have lp1 := ih
      intro σ x2 x3 x4 hF H locs hP hD hS ls hl
      replace hF : F_takesAway_c_1 (F_takesAway_c_r n) n σ x2 x3 x4 = some out := hF
      unfold F_takesAway_c_1 at hF
      refine lv_iload hx hb dX5_takesAway_3 (lv_at hl 4 rfl) ?_
      refine lv_aload_n hx hb dX5_takesAway_5 rfl (lv_at hl 0 rfl) ?_
      refine va_get (D := (dC, dI)) (ci := 0) (v := .ref (ad 0)) (C := RX5) (T := TX5) (N := 28) hx hb hts in_X5 hown hK hP 0 tw_g rfl 0 (by decide) (hts _ q1986) (fun _ h9 => h9) rfl dX5_takesAway_6 ?_
      refine lv_iconst (v := 1) hx hb dX5_takesAway_9 (by decide) ?_
      obtain ⟨g1, hF⟩ := gd_s hF
      refine va_iald hx hb hK hP 1 0 tw_e0 rfl (inB_in g1) dX5_takesAway_10 ?_
      refine lv_icmp_ge (tgt := 42) hx hb dX5_takesAway_11 (by decide) (fun c2 => ?_) (fun c2 => ?_)
      · replace hF := it_t c2 hF
        exact W.vret hx hb hr (fun t ht hW => ⟨⟨σ, rfl, Option.some.inj hF, by rw [ht]; exact hP, va_K.moved hW.alike hK⟩, hS.F ht⟩) hS.2.2 dX5_takesAway_42
      · replace hF := it_f c2 hF
        refine lv_aload_n hx hb dX5_takesAway_14 rfl (lv_at hl 1 rfl) ?_
        refine lv_iload hx hb dX5_takesAway_15 (lv_at hl 4 rfl) ?_
        refine lv_aload_n hx hb dX5_takesAway_17 rfl (lv_at hl 0 rfl) ?_
        refine lv_aload_n hx hb dX5_takesAway_18 rfl (lv_at hl 1 rfl) ?_
        refine lv_iload hx hb dX5_takesAway_19 (lv_at hl 4 rfl) ?_
        obtain ⟨g3, hF⟩ := gd_s hF
        refine va_iald hx hb hK hP 9 0 tw_e19 rfl (inB_in g3) dX5_takesAway_21 ?_
        refine lv_iload_n hx hb dX5_takesAway_22 rfl (lv_at hl 2 rfl) ?_
        refine lv_aload_n hx hb dX5_takesAway_23 rfl (lv_at hl 0 rfl) ?_
        refine lv_iload_n hx hb dX5_takesAway_24 rfl (lv_at hl 3 rfl) ?_
        refine lv_iload hx hb dX5_takesAway_25 (lv_at hl 4 rfl) ?_
        obtain ⟨r4, u4, e4, hF⟩ := bnd_s hF
        refine tw_calli (va_runV (As := [.int x3, .int x4]) (rest := [.int x2, .int ((σ).2 19 (x4).toNatClampNeg), .ref m0, .int x4, .ref (ad 19)]) ⟨hx, hb, hml, hown, hts⟩ (mt_wayOf l dC dI cI cZ m0 ad H.size σ  x3 x4 _ e4) (cwV 2 hts (lw_V q2245 q2247 qs68 q125 q2248) rfl rfl rfl (by decide +kernel) ⟨Nat.le_of_ble_eq_true rfl, Nat.le_of_ble_eq_true rfl⟩) (tw_preV hK hP hD _) rfl rfl hl.1 rfl (lv_room (Nat.le_of_ble_eq_true rfl)) dX5_takesAway_27 ⟨Nat.le_of_ble_eq_true rfl, Nat.le_of_ble_eq_true rfl⟩) hS hD hAA (fun rr uu H locs hw hP hD hS => ?_)
        obtain rfl : r4 = rr := (congrArg Prod.fst hw).symm
        obtain rfl : u4 = uu := (congrArg Prod.snd hw).symm
        refine lv_imul hx hb dX5_takesAway_30 ?_
        refine lv_isub hx hb dX5_takesAway_31 ?_
        obtain ⟨r5, u5, e5, hF⟩ := bnd_s hF
        refine tw_calli (va_runV (As := [.int (((σ).2 19 (x4).toNatClampNeg) - (x2 * r4))]) (rest := [.int x4, .ref (ad 19)]) ⟨hx, hb, hml, hown, hts⟩ (mt_mod l dC dI cI cZ m0 ad H.size u4  (((σ).2 19 (x4).toNatClampNeg) - (x2 * r4)) _ e5) (cwV 1 hts (lw_V q2253 q2255 qs70 q125 q2256) rfl rfl rfl (by decide +kernel) ⟨Nat.le_of_ble_eq_true rfl, Nat.le_of_ble_eq_true rfl⟩) (tw_preV hK hP hD _) rfl rfl hl.1 rfl (lv_room (Nat.le_of_ble_eq_true rfl)) dX5_takesAway_32 ⟨Nat.le_of_ble_eq_true rfl, Nat.le_of_ble_eq_true rfl⟩) hS hD hAA (fun rr uu H locs hw hP hD hS => ?_)
        obtain rfl : r5 = rr := (congrArg Prod.fst hw).symm
        obtain rfl : u5 = uu := (congrArg Prod.snd hw).symm
        obtain ⟨g6, hF⟩ := gd_s hF
        refine va_iast hx hb hK hP hD hS 9 0 tw_e19 rfl (x := r5) (inB_in g6) dX5_takesAway_35 (fun H locs hP hD hS => ?_)
        rw [tw_s19] at hP hD
        refine lv_iinc (v := (x4 + 1)) (lv' := [(4, .int (x4 + 1)), (0, .ref m0), (1, .ref (ad 19)), (2, .int x2), (3, .int x3)]) hx hb dX5_takesAway_36 hl (k := 4) rfl rfl (by decide) rfl (fun ls hl => ?_)
        refine lv_goto (tgt := 3) hx hb dX5_takesAway_39 (by decide) ?_
        exact lp1 (tw_sa u5 19 (x4).toNatClampNeg r5) x2 x3 (x4 + 1) hF _ _ hP hD hS ls (lv_sub hl [1, 2, 3, 4, 0] rfl)
  have lp1 := loop n
  unfold F_takesAway_c F_takesAway_c_0 at hF
  refine lv_iconst (v := 0) hx hb dX5_takesAway_0 (by decide) ?_
  refine lv_istore (lv' := [(4, .int 0), (0, .ref m0), (1, .ref (ad 19)), (2, .int p2), (3, .int p3)]) hx hb dX5_takesAway_1 hl (by decide) rfl (fun ls hl => ?_)
  exact lp1 σ p2 p3 0 hF _ _ hP hD hS ls (lv_sub hl [1, 2, 3, 4, 0] rfl)

def F_remains_x_1 (R : Nat → Tw → Int32 → Option (Int32 × Tw)) (n : Nat) (σ : Tw) (x2 : Int32) : Option (Int32 × Tw) := gd (inB 1 162) (if ((σ).2 0 (1 : Int32).toNatClampNeg) ≤ x2 then R 2 σ 0 else gd (inB x2 8) (gd (inB x2 8) (R 1 (tw_sa σ 19 (x2).toNatClampNeg ((σ).2 17 (x2).toNatClampNeg)) (x2 + 1))))
def F_remains_x_2 (R : Nat → Tw → Int32 → Option (Int32 × Tw)) (n : Nat) (σ : Tw) (x2 : Int32) : Option (Int32 × Tw) := gd (inB 5 162) (if ((σ).2 0 (5 : Int32).toNatClampNeg) ≤ x2 then some (0, σ) else bnd (F_partOf_x n σ x2) (fun r7 u7 => bnd (F_takesAway_c n u7 r7 x2) (fun r8 u8 => R 2 u8 (x2 + 1))))
def F_remains_x_r : Nat → Nat → Tw → Int32 → Option (Int32 × Tw)
  | 0 => fun _ _ _ => none
  | n + 1 => fun k => match k with | 1 => F_remains_x_1 (F_remains_x_r n) n | _ => F_remains_x_2 (F_remains_x_r n) n
def F_remains_x_0 (R : Nat → Tw → Int32 → Option (Int32 × Tw)) (n : Nat) (σ : Tw) : Option (Int32 × Tw) := R 1 σ 0
def F_remains_x (n : Nat) (σ : Tw) : Option (Int32 × Tw) := F_remains_x_0 (F_remains_x_r n) n σ 
set_option maxHeartbeats 4000000 in
set_option maxRecDepth 100000 in
theorem mt_remains_x (l : Launch) (dC : Nat → ClassId) (dI : Nat → Nat → Nat) (cI cZ : ClassId) (m0 : Nat) (ad : Nat → Nat) (sz : Nat) (σ : Tw) (n : Nat)  (out : Int32 × Tw) (hF : F_remains_x n σ  = some out) : Met l yX5_remains (ws_ yX5_remains cX5_remains 3 none) ({ frames := 5, cells := 0, slots := 0, locals := 112 }) (va_Pc [.ref m0, .ref (ad 17)] (tw_Pre dC dI cI cZ m0 ad sz σ)) (va_Qv (fun u => (0, u) = out) (tw_B dC dI cI cZ m0 ad) (tw_A m0 ad sz)) 0 0 (tw_A m0 ad sz) := by
  refine Met.ofW (cc := cX5_remains) (maxL := 3) (ret := none) (by decide +kernel) rfl ?_
  intro p e s m args below meth c s₁ B hml hv
  obtain ⟨rfl, hsz, hP, hK, hD0⟩ := hv
  have hx := B.exec
  have hb := B.bytes
  have hr := B.returns
  have hts := atoms_spec (ws := (ws_ yX5_remains cX5_remains 3 none)) B.pre
  have hts : ∀ w ∈ lw_all, w.before _ s = true := fun w h => hts w (List.mem_cons_of_mem _ h)
  have hown : s.vm.findClass RX5 = some m.cls := findClass_of_methodNamed B.named
  have hlocks := B.notSynchronized
  subst hsz
  have hD := tw_Ds (z := s.heap.size) hD0
  have hAA := fun z (h : s.heap.size ≤ z) => tw_Am (m0 := m0) (ad := ad) h
  generalize hAe : tw_A m0 ad s.heap.size = A at hD hAA ⊢
  have hS : va_S A s.heap s.heap [] := va_S.rf
  have hP : va_P (dC, dI) vwCl (tw_ws m0 ad cI cZ σ) s.heap := hP
  have hl := lv_entry ([.ref m0, .ref (ad 17)]) (n := 3) (Nat.le_of_ble_eq_true rfl)
  rw [lg_entry_eq]
  generalize (lg_sl ([.ref m0, .ref (ad 17)]) ++ List.replicate (3 - (lg_sl ([.ref m0, .ref (ad 17)])).length) Slot.unset).toArray = ls at hl ⊢
  have hl : lv_has ls 3 [(0, .ref m0), (1, .ref (ad 17))] := hl
  have loop : ∀ n : Nat, (∀ (σ : Tw) (x2 : Int32), F_remains_x_r n 1 σ x2 = some out → ∀ (H : Heap) (locs : List Loc), va_P (dC, dI) vwCl (tw_ws m0 ad cI cZ σ) H → va_D A (tw_ws m0 ad cI cZ σ) → va_S A s.heap H locs → ∀ ls : Array Slot, lv_has ls 3 [(0, .ref m0), (1, .ref (ad 17)), (2, .int x2)] → W p l e (headSpec (ws_ yX5_remains cX5_remains 3 none) ({ frames := 5, cells := 0, slots := 0, locals := 112 })).room s m ([.ref m0, .ref (ad 17)] : List Value).toArray below meth c H locs 0 0 (MQ below (va_Qv (fun u => (0, u) = out) (tw_B dC dI cI cZ m0 ad) A) ([.ref m0, .ref (ad 17)] : List Value).toArray s 0 0 A) (F0 m 2 ls [])) ∧ (∀ (σ : Tw) (x2 : Int32), F_remains_x_r n 2 σ x2 = some out → ∀ (H : Heap) (locs : List Loc), va_P (dC, dI) vwCl (tw_ws m0 ad cI cZ σ) H → va_D A (tw_ws m0 ad cI cZ σ) → va_S A s.heap H locs → ∀ ls : Array Slot, lv_has ls 3 [(0, .ref m0), (1, .ref (ad 17)), (2, .int x2)] → W p l e (headSpec (ws_ yX5_remains cX5_remains 3 none) ({ frames := 5, cells := 0, slots := 0, locals := 112 })).room s m ([.ref m0, .ref (ad 17)] : List Value).toArray below meth c H locs 0 0 (MQ below (va_Qv (fun u => (0, u) = out) (tw_B dC dI cI cZ m0 ad) A) ([.ref m0, .ref (ad 17)] : List Value).toArray s 0 0 A) (F0 m 29 ls [])) := by
    intro n
    induction n with
    | zero => exact ⟨(fun _ _ h => nomatch h), (fun _ _ h => nomatch h)⟩
    | succ n ih =>
      obtain ⟨lp1, lp2⟩ := ih
      refine ⟨?_, ?_⟩
      · intro σ x2 hF H locs hP hD hS ls hl
        replace hF : F_remains_x_1 (F_remains_x_r n) n σ x2 = some out := hF
        unfold F_remains_x_1 at hF
        refine lv_iload_n hx hb dX5_remains_2 rfl (lv_at hl 2 rfl) ?_
        refine lv_aload_n hx hb dX5_remains_3 rfl (lv_at hl 0 rfl) ?_
        refine va_get (D := (dC, dI)) (ci := 0) (v := .ref (ad 0)) (C := RX5) (T := TX5) (N := 28) hx hb hts in_X5 hown hK hP 0 tw_g rfl 0 (by decide) (hts _ q1986) (fun _ h9 => h9) rfl dX5_remains_4 ?_
        refine lv_iconst (v := 1) hx hb dX5_remains_7 (by decide) ?_
        obtain ⟨g1, hF⟩ := gd_s hF
        refine va_iald hx hb hK hP 1 0 tw_e0 rfl (inB_in g1) dX5_remains_8 ?_
        refine lv_icmp_ge (tgt := 27) hx hb dX5_remains_9 (by decide) (fun c2 => ?_) (fun c2 => ?_)
        · replace hF := it_t c2 hF
          refine lv_iconst (v := 0) hx hb dX5_remains_27 (by decide) ?_
          refine lv_istore_n (lv' := [(2, .int 0), (0, .ref m0), (1, .ref (ad 17))]) hx hb dX5_remains_28 rfl hl (by decide) rfl (fun ls hl => ?_)
          exact lp2 σ 0 hF _ _ hP hD hS ls (lv_sub hl [1, 2, 0] rfl)
        · replace hF := it_f c2 hF
          refine lv_aload_n hx hb dX5_remains_12 rfl (lv_at hl 0 rfl) ?_
          refine va_get (D := (dC, dI)) (ci := 0) (v := .ref (ad 19)) (C := RX5) (T := TX5) (N := 28) hx hb hts in_X5 hown hK hP 0 tw_g rfl 19 (by decide) (hts _ q2005) (fun _ h9 => h9) rfl dX5_remains_13 ?_
          refine lv_iload_n hx hb dX5_remains_16 rfl (lv_at hl 2 rfl) ?_
          refine lv_aload_n hx hb dX5_remains_17 rfl (lv_at hl 1 rfl) ?_
          refine lv_iload_n hx hb dX5_remains_18 rfl (lv_at hl 2 rfl) ?_
          obtain ⟨g3, hF⟩ := gd_s hF
          refine va_iald hx hb hK hP 7 0 tw_e17 rfl (inB_in g3) dX5_remains_19 ?_
          obtain ⟨g4, hF⟩ := gd_s hF
          refine va_iast hx hb hK hP hD hS 9 0 tw_e19 rfl (x := ((σ).2 17 (x2).toNatClampNeg)) (inB_in g4) dX5_remains_20 (fun H locs hP hD hS => ?_)
          rw [tw_s19] at hP hD
          refine lv_iinc (v := (x2 + 1)) (lv' := [(2, .int (x2 + 1)), (0, .ref m0), (1, .ref (ad 17))]) hx hb dX5_remains_21 hl (k := 2) rfl rfl (by decide) rfl (fun ls hl => ?_)
          refine lv_goto (tgt := 2) hx hb dX5_remains_24 (by decide) ?_
          exact lp1 (tw_sa σ 19 (x2).toNatClampNeg ((σ).2 17 (x2).toNatClampNeg)) (x2 + 1) hF _ _ hP hD hS ls (lv_sub hl [1, 2, 0] rfl)
      · intro σ x2 hF H locs hP hD hS ls hl
        replace hF : F_remains_x_2 (F_remains_x_r n) n σ x2 = some out := hF
        unfold F_remains_x_2 at hF
        refine lv_iload_n hx hb dX5_remains_29 rfl (lv_at hl 2 rfl) ?_
        refine lv_aload_n hx hb dX5_remains_30 rfl (lv_at hl 0 rfl) ?_
        refine va_get (D := (dC, dI)) (ci := 0) (v := .ref (ad 0)) (C := RX5) (T := TX5) (N := 28) hx hb hts in_X5 hown hK hP 0 tw_g rfl 0 (by decide) (hts _ q1986) (fun _ h9 => h9) rfl dX5_remains_31 ?_
        refine lv_iconst (v := 5) hx hb dX5_remains_34 (by decide) ?_
        obtain ⟨g5, hF⟩ := gd_s hF
        refine va_iald hx hb hK hP 1 0 tw_e0 rfl (inB_in g5) dX5_remains_35 ?_
        refine lv_icmp_ge (tgt := 60) hx hb dX5_remains_36 (by decide) (fun c6 => ?_) (fun c6 => ?_)
        · replace hF := it_t c6 hF
          exact W.vret hx hb hr (fun t ht hW => ⟨⟨σ, rfl, Option.some.inj hF, by rw [ht]; exact hP, va_K.moved hW.alike hK⟩, hS.F ht⟩) hS.2.2 dX5_remains_60
        · replace hF := it_f c6 hF
          refine lv_aload_n hx hb dX5_remains_39 rfl (lv_at hl 0 rfl) ?_
          refine lv_aload_n hx hb dX5_remains_40 rfl (lv_at hl 0 rfl) ?_
          refine va_get (D := (dC, dI)) (ci := 0) (v := .ref (ad 19)) (C := RX5) (T := TX5) (N := 28) hx hb hts in_X5 hown hK hP 0 tw_g rfl 19 (by decide) (hts _ q2005) (fun _ h9 => h9) rfl dX5_remains_41 ?_
          refine lv_aload_n hx hb dX5_remains_44 rfl (lv_at hl 0 rfl) ?_
          refine lv_aload_n hx hb dX5_remains_45 rfl (lv_at hl 1 rfl) ?_
          refine lv_iload_n hx hb dX5_remains_46 rfl (lv_at hl 2 rfl) ?_
          obtain ⟨r7, u7, e7, hF⟩ := bnd_s hF
          refine tw_calli (va_runV (As := [.ref (ad 17), .int x2]) (rest := [.ref (ad 19), .ref m0]) ⟨hx, hb, hml, hown, hts⟩ (mt_partOf_x l dC dI cI cZ m0 ad H.size σ n  x2 _ e7) (cwV 2 hts (lw_V q2264 q2266 qs72 q125 q2267) rfl rfl rfl (by decide +kernel) ⟨Nat.le_of_ble_eq_true rfl, Nat.le_of_ble_eq_true rfl⟩) (tw_preV hK hP hD _) rfl rfl hl.1 rfl (lv_room (Nat.le_of_ble_eq_true rfl)) dX5_remains_47 ⟨Nat.le_of_ble_eq_true rfl, Nat.le_of_ble_eq_true rfl⟩) hS hD hAA (fun rr uu H locs hw hP hD hS => ?_)
          obtain rfl : r7 = rr := (congrArg Prod.fst hw).symm
          obtain rfl : u7 = uu := (congrArg Prod.snd hw).symm
          refine lv_iload_n hx hb dX5_remains_50 rfl (lv_at hl 2 rfl) ?_
          obtain ⟨r8, u8, e8, hF⟩ := bnd_s hF
          refine tw_callv (va_runV (As := [.ref (ad 19), .int r7, .int x2]) (rest := []) ⟨hx, hb, hml, hown, hts⟩ (mt_takesAway_c l dC dI cI cZ m0 ad H.size u7 n  r7 x2 _ e8) (cwV 3 hts (lw_V q2284 q2286 qs77 q125 q2287) rfl rfl rfl (by decide +kernel) ⟨Nat.le_of_ble_eq_true rfl, Nat.le_of_ble_eq_true rfl⟩) (tw_preV hK hP hD _) rfl rfl hl.1 rfl (lv_room (Nat.le_of_ble_eq_true rfl)) dX5_remains_51 ⟨Nat.le_of_ble_eq_true rfl, Nat.le_of_ble_eq_true rfl⟩) hS hD hAA (fun uu H locs hw hP hD hS => ?_)
          obtain rfl : u8 = uu := (congrArg Prod.snd hw).symm
          refine lv_iinc (v := (x2 + 1)) (lv' := [(2, .int (x2 + 1)), (0, .ref m0), (1, .ref (ad 17))]) hx hb dX5_remains_54 hl (k := 2) rfl rfl (by decide) rfl (fun ls hl => ?_)
          refine lv_goto (tgt := 29) hx hb dX5_remains_57 (by decide) ?_
          exact lp2 u8 (x2 + 1) hF _ _ hP hD hS ls (lv_sub hl [1, 2, 0] rfl)
  obtain ⟨lp1, lp2⟩ := loop n
  unfold F_remains_x F_remains_x_0 at hF
  refine lv_iconst (v := 0) hx hb dX5_remains_0 (by decide) ?_
  refine lv_istore_n (lv' := [(2, .int 0), (0, .ref m0), (1, .ref (ad 17))]) hx hb dX5_remains_1 rfl hl (by decide) rfl (fun ls hl => ?_)
  exact lp1 σ 0 hF _ _ hP hD hS ls (lv_sub hl [1, 2, 0] rfl)

def F_remains_y_1 (R : Nat → Tw → Int32 → Option (Int32 × Tw)) (n : Nat) (σ : Tw) (x2 : Int32) : Option (Int32 × Tw) := gd (inB 1 162) (if ((σ).2 0 (1 : Int32).toNatClampNeg) ≤ x2 then R 2 σ 0 else gd (inB x2 8) (gd (inB x2 8) (R 1 (tw_sa σ 19 (x2).toNatClampNeg ((σ).2 18 (x2).toNatClampNeg)) (x2 + 1))))
def F_remains_y_2 (R : Nat → Tw → Int32 → Option (Int32 × Tw)) (n : Nat) (σ : Tw) (x2 : Int32) : Option (Int32 × Tw) := gd (inB 5 162) (if ((σ).2 0 (5 : Int32).toNatClampNeg) ≤ x2 then some (0, σ) else bnd (F_partOf_y n σ x2) (fun r7 u7 => bnd (F_takesAway_c n u7 r7 x2) (fun r8 u8 => R 2 u8 (x2 + 1))))
def F_remains_y_r : Nat → Nat → Tw → Int32 → Option (Int32 × Tw)
  | 0 => fun _ _ _ => none
  | n + 1 => fun k => match k with | 1 => F_remains_y_1 (F_remains_y_r n) n | _ => F_remains_y_2 (F_remains_y_r n) n
def F_remains_y_0 (R : Nat → Tw → Int32 → Option (Int32 × Tw)) (n : Nat) (σ : Tw) : Option (Int32 × Tw) := R 1 σ 0
def F_remains_y (n : Nat) (σ : Tw) : Option (Int32 × Tw) := F_remains_y_0 (F_remains_y_r n) n σ 
set_option maxHeartbeats 4000000 in
set_option maxRecDepth 100000 in
theorem mt_remains_y (l : Launch) (dC : Nat → ClassId) (dI : Nat → Nat → Nat) (cI cZ : ClassId) (m0 : Nat) (ad : Nat → Nat) (sz : Nat) (σ : Tw) (n : Nat)  (out : Int32 × Tw) (hF : F_remains_y n σ  = some out) : Met l yX5_remains (ws_ yX5_remains cX5_remains 3 none) ({ frames := 5, cells := 0, slots := 0, locals := 112 }) (va_Pc [.ref m0, .ref (ad 18)] (tw_Pre dC dI cI cZ m0 ad sz σ)) (va_Qv (fun u => (0, u) = out) (tw_B dC dI cI cZ m0 ad) (tw_A m0 ad sz)) 0 0 (tw_A m0 ad sz) := by
  refine Met.ofW (cc := cX5_remains) (maxL := 3) (ret := none) (by decide +kernel) rfl ?_
  intro p e s m args below meth c s₁ B hml hv
  obtain ⟨rfl, hsz, hP, hK, hD0⟩ := hv
  have hx := B.exec
  have hb := B.bytes
  have hr := B.returns
  have hts := atoms_spec (ws := (ws_ yX5_remains cX5_remains 3 none)) B.pre
  have hts : ∀ w ∈ lw_all, w.before _ s = true := fun w h => hts w (List.mem_cons_of_mem _ h)
  have hown : s.vm.findClass RX5 = some m.cls := findClass_of_methodNamed B.named
  have hlocks := B.notSynchronized
  subst hsz
  have hD := tw_Ds (z := s.heap.size) hD0
  have hAA := fun z (h : s.heap.size ≤ z) => tw_Am (m0 := m0) (ad := ad) h
  generalize hAe : tw_A m0 ad s.heap.size = A at hD hAA ⊢
  have hS : va_S A s.heap s.heap [] := va_S.rf
  have hP : va_P (dC, dI) vwCl (tw_ws m0 ad cI cZ σ) s.heap := hP
  have hl := lv_entry ([.ref m0, .ref (ad 18)]) (n := 3) (Nat.le_of_ble_eq_true rfl)
  rw [lg_entry_eq]
  generalize (lg_sl ([.ref m0, .ref (ad 18)]) ++ List.replicate (3 - (lg_sl ([.ref m0, .ref (ad 18)])).length) Slot.unset).toArray = ls at hl ⊢
  have hl : lv_has ls 3 [(0, .ref m0), (1, .ref (ad 18))] := hl
  have loop : ∀ n : Nat, (∀ (σ : Tw) (x2 : Int32), F_remains_y_r n 1 σ x2 = some out → ∀ (H : Heap) (locs : List Loc), va_P (dC, dI) vwCl (tw_ws m0 ad cI cZ σ) H → va_D A (tw_ws m0 ad cI cZ σ) → va_S A s.heap H locs → ∀ ls : Array Slot, lv_has ls 3 [(0, .ref m0), (1, .ref (ad 18)), (2, .int x2)] → W p l e (headSpec (ws_ yX5_remains cX5_remains 3 none) ({ frames := 5, cells := 0, slots := 0, locals := 112 })).room s m ([.ref m0, .ref (ad 18)] : List Value).toArray below meth c H locs 0 0 (MQ below (va_Qv (fun u => (0, u) = out) (tw_B dC dI cI cZ m0 ad) A) ([.ref m0, .ref (ad 18)] : List Value).toArray s 0 0 A) (F0 m 2 ls [])) ∧ (∀ (σ : Tw) (x2 : Int32), F_remains_y_r n 2 σ x2 = some out → ∀ (H : Heap) (locs : List Loc), va_P (dC, dI) vwCl (tw_ws m0 ad cI cZ σ) H → va_D A (tw_ws m0 ad cI cZ σ) → va_S A s.heap H locs → ∀ ls : Array Slot, lv_has ls 3 [(0, .ref m0), (1, .ref (ad 18)), (2, .int x2)] → W p l e (headSpec (ws_ yX5_remains cX5_remains 3 none) ({ frames := 5, cells := 0, slots := 0, locals := 112 })).room s m ([.ref m0, .ref (ad 18)] : List Value).toArray below meth c H locs 0 0 (MQ below (va_Qv (fun u => (0, u) = out) (tw_B dC dI cI cZ m0 ad) A) ([.ref m0, .ref (ad 18)] : List Value).toArray s 0 0 A) (F0 m 29 ls [])) := by
    intro n
    induction n with
    | zero => exact ⟨(fun _ _ h => nomatch h), (fun _ _ h => nomatch h)⟩
    | succ n ih =>
      obtain ⟨lp1, lp2⟩ := ih
      refine ⟨?_, ?_⟩
      · intro σ x2 hF H locs hP hD hS ls hl
        replace hF : F_remains_y_1 (F_remains_y_r n) n σ x2 = some out := hF
        unfold F_remains_y_1 at hF
        refine lv_iload_n hx hb dX5_remains_2 rfl (lv_at hl 2 rfl) ?_
        refine lv_aload_n hx hb dX5_remains_3 rfl (lv_at hl 0 rfl) ?_
        refine va_get (D := (dC, dI)) (ci := 0) (v := .ref (ad 0)) (C := RX5) (T := TX5) (N := 28) hx hb hts in_X5 hown hK hP 0 tw_g rfl 0 (by decide) (hts _ q1986) (fun _ h9 => h9) rfl dX5_remains_4 ?_
        refine lv_iconst (v := 1) hx hb dX5_remains_7 (by decide) ?_
        obtain ⟨g1, hF⟩ := gd_s hF
        refine va_iald hx hb hK hP 1 0 tw_e0 rfl (inB_in g1) dX5_remains_8 ?_
        refine lv_icmp_ge (tgt := 27) hx hb dX5_remains_9 (by decide) (fun c2 => ?_) (fun c2 => ?_)
        · replace hF := it_t c2 hF
          refine lv_iconst (v := 0) hx hb dX5_remains_27 (by decide) ?_
          refine lv_istore_n (lv' := [(2, .int 0), (0, .ref m0), (1, .ref (ad 18))]) hx hb dX5_remains_28 rfl hl (by decide) rfl (fun ls hl => ?_)
          exact lp2 σ 0 hF _ _ hP hD hS ls (lv_sub hl [1, 2, 0] rfl)
        · replace hF := it_f c2 hF
          refine lv_aload_n hx hb dX5_remains_12 rfl (lv_at hl 0 rfl) ?_
          refine va_get (D := (dC, dI)) (ci := 0) (v := .ref (ad 19)) (C := RX5) (T := TX5) (N := 28) hx hb hts in_X5 hown hK hP 0 tw_g rfl 19 (by decide) (hts _ q2005) (fun _ h9 => h9) rfl dX5_remains_13 ?_
          refine lv_iload_n hx hb dX5_remains_16 rfl (lv_at hl 2 rfl) ?_
          refine lv_aload_n hx hb dX5_remains_17 rfl (lv_at hl 1 rfl) ?_
          refine lv_iload_n hx hb dX5_remains_18 rfl (lv_at hl 2 rfl) ?_
          obtain ⟨g3, hF⟩ := gd_s hF
          refine va_iald hx hb hK hP 8 0 tw_e18 rfl (inB_in g3) dX5_remains_19 ?_
          obtain ⟨g4, hF⟩ := gd_s hF
          refine va_iast hx hb hK hP hD hS 9 0 tw_e19 rfl (x := ((σ).2 18 (x2).toNatClampNeg)) (inB_in g4) dX5_remains_20 (fun H locs hP hD hS => ?_)
          rw [tw_s19] at hP hD
          refine lv_iinc (v := (x2 + 1)) (lv' := [(2, .int (x2 + 1)), (0, .ref m0), (1, .ref (ad 18))]) hx hb dX5_remains_21 hl (k := 2) rfl rfl (by decide) rfl (fun ls hl => ?_)
          refine lv_goto (tgt := 2) hx hb dX5_remains_24 (by decide) ?_
          exact lp1 (tw_sa σ 19 (x2).toNatClampNeg ((σ).2 18 (x2).toNatClampNeg)) (x2 + 1) hF _ _ hP hD hS ls (lv_sub hl [1, 2, 0] rfl)
      · intro σ x2 hF H locs hP hD hS ls hl
        replace hF : F_remains_y_2 (F_remains_y_r n) n σ x2 = some out := hF
        unfold F_remains_y_2 at hF
        refine lv_iload_n hx hb dX5_remains_29 rfl (lv_at hl 2 rfl) ?_
        refine lv_aload_n hx hb dX5_remains_30 rfl (lv_at hl 0 rfl) ?_
        refine va_get (D := (dC, dI)) (ci := 0) (v := .ref (ad 0)) (C := RX5) (T := TX5) (N := 28) hx hb hts in_X5 hown hK hP 0 tw_g rfl 0 (by decide) (hts _ q1986) (fun _ h9 => h9) rfl dX5_remains_31 ?_
        refine lv_iconst (v := 5) hx hb dX5_remains_34 (by decide) ?_
        obtain ⟨g5, hF⟩ := gd_s hF
        refine va_iald hx hb hK hP 1 0 tw_e0 rfl (inB_in g5) dX5_remains_35 ?_
        refine lv_icmp_ge (tgt := 60) hx hb dX5_remains_36 (by decide) (fun c6 => ?_) (fun c6 => ?_)
        · replace hF := it_t c6 hF
          exact W.vret hx hb hr (fun t ht hW => ⟨⟨σ, rfl, Option.some.inj hF, by rw [ht]; exact hP, va_K.moved hW.alike hK⟩, hS.F ht⟩) hS.2.2 dX5_remains_60
        · replace hF := it_f c6 hF
          refine lv_aload_n hx hb dX5_remains_39 rfl (lv_at hl 0 rfl) ?_
          refine lv_aload_n hx hb dX5_remains_40 rfl (lv_at hl 0 rfl) ?_
          refine va_get (D := (dC, dI)) (ci := 0) (v := .ref (ad 19)) (C := RX5) (T := TX5) (N := 28) hx hb hts in_X5 hown hK hP 0 tw_g rfl 19 (by decide) (hts _ q2005) (fun _ h9 => h9) rfl dX5_remains_41 ?_
          refine lv_aload_n hx hb dX5_remains_44 rfl (lv_at hl 0 rfl) ?_
          refine lv_aload_n hx hb dX5_remains_45 rfl (lv_at hl 1 rfl) ?_
          refine lv_iload_n hx hb dX5_remains_46 rfl (lv_at hl 2 rfl) ?_
          obtain ⟨r7, u7, e7, hF⟩ := bnd_s hF
          refine tw_calli (va_runV (As := [.ref (ad 18), .int x2]) (rest := [.ref (ad 19), .ref m0]) ⟨hx, hb, hml, hown, hts⟩ (mt_partOf_y l dC dI cI cZ m0 ad H.size σ n  x2 _ e7) (cwV 2 hts (lw_V q2264 q2266 qs72 q125 q2267) rfl rfl rfl (by decide +kernel) ⟨Nat.le_of_ble_eq_true rfl, Nat.le_of_ble_eq_true rfl⟩) (tw_preV hK hP hD _) rfl rfl hl.1 rfl (lv_room (Nat.le_of_ble_eq_true rfl)) dX5_remains_47 ⟨Nat.le_of_ble_eq_true rfl, Nat.le_of_ble_eq_true rfl⟩) hS hD hAA (fun rr uu H locs hw hP hD hS => ?_)
          obtain rfl : r7 = rr := (congrArg Prod.fst hw).symm
          obtain rfl : u7 = uu := (congrArg Prod.snd hw).symm
          refine lv_iload_n hx hb dX5_remains_50 rfl (lv_at hl 2 rfl) ?_
          obtain ⟨r8, u8, e8, hF⟩ := bnd_s hF
          refine tw_callv (va_runV (As := [.ref (ad 19), .int r7, .int x2]) (rest := []) ⟨hx, hb, hml, hown, hts⟩ (mt_takesAway_c l dC dI cI cZ m0 ad H.size u7 n  r7 x2 _ e8) (cwV 3 hts (lw_V q2284 q2286 qs77 q125 q2287) rfl rfl rfl (by decide +kernel) ⟨Nat.le_of_ble_eq_true rfl, Nat.le_of_ble_eq_true rfl⟩) (tw_preV hK hP hD _) rfl rfl hl.1 rfl (lv_room (Nat.le_of_ble_eq_true rfl)) dX5_remains_51 ⟨Nat.le_of_ble_eq_true rfl, Nat.le_of_ble_eq_true rfl⟩) hS hD hAA (fun uu H locs hw hP hD hS => ?_)
          obtain rfl : u8 = uu := (congrArg Prod.snd hw).symm
          refine lv_iinc (v := (x2 + 1)) (lv' := [(2, .int (x2 + 1)), (0, .ref m0), (1, .ref (ad 18))]) hx hb dX5_remains_54 hl (k := 2) rfl rfl (by decide) rfl (fun ls hl => ?_)
          refine lv_goto (tgt := 29) hx hb dX5_remains_57 (by decide) ?_
          exact lp2 u8 (x2 + 1) hF _ _ hP hD hS ls (lv_sub hl [1, 2, 0] rfl)
  obtain ⟨lp1, lp2⟩ := loop n
  unfold F_remains_y F_remains_y_0 at hF
  refine lv_iconst (v := 0) hx hb dX5_remains_0 (by decide) ?_
  refine lv_istore_n (lv' := [(2, .int 0), (0, .ref m0), (1, .ref (ad 18))]) hx hb dX5_remains_1 rfl hl (by decide) rfl (fun ls hl => ?_)
  exact lp1 σ 0 hF _ _ hP hD hS ls (lv_sub hl [1, 2, 0] rfl)

def F_laysUnit_x_1 (R : Nat → Tw → Int32 → Int32 → Option (Int32 × Tw)) (n : Nat) (σ : Tw) (x1 : Int32) (x3 : Int32) : Option (Int32 × Tw) := gd (inB 1 162) (if ((σ).2 0 (1 : Int32).toNatClampNeg) ≤ x3 then some (0, σ) else if x3 = x1 then gd (inB x3 8) (R 1 (tw_sa σ 17 (x3).toNatClampNeg 1) x1 (x3 + 1)) else gd (inB x3 8) (R 1 (tw_sa σ 17 (x3).toNatClampNeg 0) x1 (x3 + 1)))
def F_laysUnit_x_r : Nat → Nat → Tw → Int32 → Int32 → Option (Int32 × Tw)
  | 0 => fun _ _ _ _ => none
  | n + 1 => fun k => match k with  | _ => F_laysUnit_x_1 (F_laysUnit_x_r n) n
def F_laysUnit_x_0 (R : Nat → Tw → Int32 → Int32 → Option (Int32 × Tw)) (n : Nat) (σ : Tw) (p1 : Int32) : Option (Int32 × Tw) := R 1 σ p1 0
def F_laysUnit_x (n : Nat) (σ : Tw) (p1 : Int32) : Option (Int32 × Tw) := F_laysUnit_x_0 (F_laysUnit_x_r n) n σ p1
set_option maxHeartbeats 4000000 in
set_option maxRecDepth 100000 in
theorem mt_laysUnit_x (l : Launch) (dC : Nat → ClassId) (dI : Nat → Nat → Nat) (cI cZ : ClassId) (m0 : Nat) (ad : Nat → Nat) (sz : Nat) (σ : Tw) (n : Nat)  (p1 : Int32) (out : Int32 × Tw) (hF : F_laysUnit_x n σ p1 = some out) : Met l yX5_laysUnit (ws_ yX5_laysUnit cX5_laysUnit 4 none) ({ frames := 0, cells := 0, slots := 0, locals := 0 }) (va_Pc [.ref m0, .int p1, .ref (ad 17)] (tw_Pre dC dI cI cZ m0 ad sz σ)) (va_Qv (fun u => (0, u) = out) (tw_B dC dI cI cZ m0 ad) (tw_A m0 ad sz)) 0 0 (tw_A m0 ad sz) := by
  refine Met.ofW (cc := cX5_laysUnit) (maxL := 4) (ret := none) (by decide +kernel) rfl ?_
  intro p e s m args below meth c s₁ B hml hv
  obtain ⟨rfl, hsz, hP, hK, hD0⟩ := hv
  have hx := B.exec
  have hb := B.bytes
  have hr := B.returns
  have hts := atoms_spec (ws := (ws_ yX5_laysUnit cX5_laysUnit 4 none)) B.pre
  have hts : ∀ w ∈ lw_all, w.before _ s = true := fun w h => hts w (List.mem_cons_of_mem _ h)
  have hown : s.vm.findClass RX5 = some m.cls := findClass_of_methodNamed B.named
  have hlocks := B.notSynchronized
  subst hsz
  have hD := tw_Ds (z := s.heap.size) hD0
  have hAA := fun z (h : s.heap.size ≤ z) => tw_Am (m0 := m0) (ad := ad) h
  generalize hAe : tw_A m0 ad s.heap.size = A at hD hAA ⊢
  have hS : va_S A s.heap s.heap [] := va_S.rf
  have hP : va_P (dC, dI) vwCl (tw_ws m0 ad cI cZ σ) s.heap := hP
  have hl := lv_entry ([.ref m0, .int p1, .ref (ad 17)]) (n := 4) (Nat.le_of_ble_eq_true rfl)
  rw [lg_entry_eq]
  generalize (lg_sl ([.ref m0, .int p1, .ref (ad 17)]) ++ List.replicate (4 - (lg_sl ([.ref m0, .int p1, .ref (ad 17)])).length) Slot.unset).toArray = ls at hl ⊢
  have hl : lv_has ls 4 [(0, .ref m0), (1, .int p1), (2, .ref (ad 17))] := hl
  have loop : ∀ n : Nat, (∀ (σ : Tw) (x1 x3 : Int32), F_laysUnit_x_r n 1 σ x1 x3 = some out → ∀ (H : Heap) (locs : List Loc), va_P (dC, dI) vwCl (tw_ws m0 ad cI cZ σ) H → va_D A (tw_ws m0 ad cI cZ σ) → va_S A s.heap H locs → ∀ ls : Array Slot, lv_has ls 4 [(0, .ref m0), (1, .int x1), (2, .ref (ad 17)), (3, .int x3)] → W p l e (headSpec (ws_ yX5_laysUnit cX5_laysUnit 4 none) ({ frames := 0, cells := 0, slots := 0, locals := 0 })).room s m ([.ref m0, .int p1, .ref (ad 17)] : List Value).toArray below meth c H locs 0 0 (MQ below (va_Qv (fun u => (0, u) = out) (tw_B dC dI cI cZ m0 ad) A) ([.ref m0, .int p1, .ref (ad 17)] : List Value).toArray s 0 0 A) (F0 m 2 ls [])) := by
    intro n
    induction n with
    | zero => exact (fun _ _ _ h => nomatch h)
    | succ n ih =>
      have lp1 := ih
      intro σ x1 x3 hF H locs hP hD hS ls hl
      replace hF : F_laysUnit_x_1 (F_laysUnit_x_r n) n σ x1 x3 = some out := hF
      unfold F_laysUnit_x_1 at hF
      refine lv_iload_n hx hb dX5_laysUnit_2 rfl (lv_at hl 3 rfl) ?_
      refine lv_aload_n hx hb dX5_laysUnit_3 rfl (lv_at hl 0 rfl) ?_
      refine va_get (D := (dC, dI)) (ci := 0) (v := .ref (ad 0)) (C := RX5) (T := TX5) (N := 28) hx hb hts in_X5 hown hK hP 0 tw_g rfl 0 (by decide) (hts _ q1986) (fun _ h9 => h9) rfl dX5_laysUnit_4 ?_
      refine lv_iconst (v := 1) hx hb dX5_laysUnit_7 (by decide) ?_
      obtain ⟨g1, hF⟩ := gd_s hF
      refine va_iald hx hb hK hP 1 0 tw_e0 rfl (inB_in g1) dX5_laysUnit_8 ?_
      refine lv_icmp_ge (tgt := 31) hx hb dX5_laysUnit_9 (by decide) (fun c2 => ?_) (fun c2 => ?_)
      · replace hF := it_t c2 hF
        exact W.vret hx hb hr (fun t ht hW => ⟨⟨σ, rfl, Option.some.inj hF, by rw [ht]; exact hP, va_K.moved hW.alike hK⟩, hS.F ht⟩) hS.2.2 dX5_laysUnit_31
      · replace hF := it_f c2 hF
        refine lv_aload_n hx hb dX5_laysUnit_12 rfl (lv_at hl 2 rfl) ?_
        refine lv_iload_n hx hb dX5_laysUnit_13 rfl (lv_at hl 3 rfl) ?_
        refine lv_iload_n hx hb dX5_laysUnit_14 rfl (lv_at hl 3 rfl) ?_
        refine lv_iload_n hx hb dX5_laysUnit_15 rfl (lv_at hl 1 rfl) ?_
        refine lv_icmp_ne (tgt := 23) hx hb dX5_laysUnit_16 (by decide) (fun c3 => ?_) (fun c3 => ?_)
        · replace hF := it_f c3 hF
          refine lv_iconst (v := 0) hx hb dX5_laysUnit_23 (by decide) ?_
          obtain ⟨g4, hF⟩ := gd_s hF
          refine va_iast hx hb hK hP hD hS 7 0 tw_e17 rfl (x := 0) (inB_in g4) dX5_laysUnit_24 (fun H locs hP hD hS => ?_)
          rw [tw_s17] at hP hD
          refine lv_iinc (v := (x3 + 1)) (lv' := [(3, .int (x3 + 1)), (0, .ref m0), (1, .int x1), (2, .ref (ad 17))]) hx hb dX5_laysUnit_25 hl (k := 3) rfl rfl (by decide) rfl (fun ls hl => ?_)
          refine lv_goto (tgt := 2) hx hb dX5_laysUnit_28 (by decide) ?_
          exact lp1 (tw_sa σ 17 (x3).toNatClampNeg 0) x1 (x3 + 1) hF _ _ hP hD hS ls (lv_sub hl [1, 2, 3, 0] rfl)
        · replace hF := it_t c3 hF
          refine lv_iconst (v := 1) hx hb dX5_laysUnit_19 (by decide) ?_
          refine lv_goto (tgt := 24) hx hb dX5_laysUnit_20 (by decide) ?_
          obtain ⟨g5, hF⟩ := gd_s hF
          refine va_iast hx hb hK hP hD hS 7 0 tw_e17 rfl (x := 1) (inB_in g5) dX5_laysUnit_24 (fun H locs hP hD hS => ?_)
          rw [tw_s17] at hP hD
          refine lv_iinc (v := (x3 + 1)) (lv' := [(3, .int (x3 + 1)), (0, .ref m0), (1, .int x1), (2, .ref (ad 17))]) hx hb dX5_laysUnit_25 hl (k := 3) rfl rfl (by decide) rfl (fun ls hl => ?_)
          refine lv_goto (tgt := 2) hx hb dX5_laysUnit_28 (by decide) ?_
          exact lp1 (tw_sa σ 17 (x3).toNatClampNeg 1) x1 (x3 + 1) hF _ _ hP hD hS ls (lv_sub hl [1, 2, 3, 0] rfl)
  have lp1 := loop n
  unfold F_laysUnit_x F_laysUnit_x_0 at hF
  refine lv_iconst (v := 0) hx hb dX5_laysUnit_0 (by decide) ?_
  refine lv_istore_n (lv' := [(3, .int 0), (0, .ref m0), (1, .int p1), (2, .ref (ad 17))]) hx hb dX5_laysUnit_1 rfl hl (by decide) rfl (fun ls hl => ?_)
  exact lp1 σ p1 0 hF _ _ hP hD hS ls (lv_sub hl [1, 2, 3, 0] rfl)

def F_isZero_1 (R : Nat → Tw → Int32 → Int32 → Option (Int32 × Tw)) (n : Nat) (σ : Tw) (x1 : Int32) (x2 : Int32) : Option (Int32 × Tw) := gd (inB 1 162) (if ((σ).2 0 (1 : Int32).toNatClampNeg) ≤ x2 then gd (zbB x1) (some (x1, σ)) else if x1 = 0 then R 1 σ 0 (x2 + 1) else gd (inB x2 8) (if ((σ).2 19 (x2).toNatClampNeg) = 0 then R 1 σ 1 (x2 + 1) else R 1 σ 0 (x2 + 1)))
def F_isZero_r : Nat → Nat → Tw → Int32 → Int32 → Option (Int32 × Tw)
  | 0 => fun _ _ _ _ => none
  | n + 1 => fun k => match k with  | _ => F_isZero_1 (F_isZero_r n) n
def F_isZero_0 (R : Nat → Tw → Int32 → Int32 → Option (Int32 × Tw)) (n : Nat) (σ : Tw) : Option (Int32 × Tw) := R 1 σ 1 0
def F_isZero (n : Nat) (σ : Tw) : Option (Int32 × Tw) := F_isZero_0 (F_isZero_r n) n σ 
set_option maxHeartbeats 4000000 in
set_option maxRecDepth 100000 in
theorem mt_isZero (l : Launch) (dC : Nat → ClassId) (dI : Nat → Nat → Nat) (cI cZ : ClassId) (m0 : Nat) (ad : Nat → Nat) (sz : Nat) (σ : Tw) (n : Nat)  (out : Int32 × Tw) (hF : F_isZero n σ  = some out) : Met l yX5_isZero (ws_ yX5_isZero cX5_isZero 3 (some .boolean)) ({ frames := 0, cells := 0, slots := 0, locals := 0 }) (va_Pc [.ref m0] (tw_Pre dC dI cI cZ m0 ad sz σ)) (va_Qi (fun r u => (r, u) = out) (tw_B dC dI cI cZ m0 ad) (tw_A m0 ad sz)) 0 0 (tw_A m0 ad sz) := by
  refine Met.ofW (cc := cX5_isZero) (maxL := 3) (ret := (some .boolean)) (by decide +kernel) rfl ?_
  intro p e s m args below meth c s₁ B hml hv
  obtain ⟨rfl, hsz, hP, hK, hD0⟩ := hv
  have hx := B.exec
  have hb := B.bytes
  have hr := B.returns
  have hts := atoms_spec (ws := (ws_ yX5_isZero cX5_isZero 3 (some .boolean))) B.pre
  have hts : ∀ w ∈ lw_all, w.before _ s = true := fun w h => hts w (List.mem_cons_of_mem _ h)
  have hown : s.vm.findClass RX5 = some m.cls := findClass_of_methodNamed B.named
  have hlocks := B.notSynchronized
  subst hsz
  have hD := tw_Ds (z := s.heap.size) hD0
  have hAA := fun z (h : s.heap.size ≤ z) => tw_Am (m0 := m0) (ad := ad) h
  generalize hAe : tw_A m0 ad s.heap.size = A at hD hAA ⊢
  have hS : va_S A s.heap s.heap [] := va_S.rf
  have hP : va_P (dC, dI) vwCl (tw_ws m0 ad cI cZ σ) s.heap := hP
  have hl := lv_entry ([.ref m0]) (n := 3) (Nat.le_of_ble_eq_true rfl)
  rw [lg_entry_eq]
  generalize (lg_sl ([.ref m0]) ++ List.replicate (3 - (lg_sl ([.ref m0])).length) Slot.unset).toArray = ls at hl ⊢
  have hl : lv_has ls 3 [(0, .ref m0)] := hl
  have loop : ∀ n : Nat, (∀ (σ : Tw) (x1 x2 : Int32), F_isZero_r n 1 σ x1 x2 = some out → ∀ (H : Heap) (locs : List Loc), va_P (dC, dI) vwCl (tw_ws m0 ad cI cZ σ) H → va_D A (tw_ws m0 ad cI cZ σ) → va_S A s.heap H locs → ∀ ls : Array Slot, lv_has ls 3 [(0, .ref m0), (1, .int x1), (2, .int x2)] → W p l e (headSpec (ws_ yX5_isZero cX5_isZero 3 (some .boolean)) ({ frames := 0, cells := 0, slots := 0, locals := 0 })).room s m ([.ref m0] : List Value).toArray below meth c H locs 0 0 (MQ below (va_Qi (fun r u => (r, u) = out) (tw_B dC dI cI cZ m0 ad) A) ([.ref m0] : List Value).toArray s 0 0 A) (F0 m 4 ls [])) := by
    intro n
    induction n with
    | zero => exact (fun _ _ _ h => nomatch h)
    | succ n ih =>
      have lp1 := ih
      intro σ x1 x2 hF H locs hP hD hS ls hl
      replace hF : F_isZero_1 (F_isZero_r n) n σ x1 x2 = some out := hF
      unfold F_isZero_1 at hF
      refine lv_iload_n hx hb dX5_isZero_4 rfl (lv_at hl 2 rfl) ?_
      refine lv_aload_n hx hb dX5_isZero_5 rfl (lv_at hl 0 rfl) ?_
      refine va_get (D := (dC, dI)) (ci := 0) (v := .ref (ad 0)) (C := RX5) (T := TX5) (N := 28) hx hb hts in_X5 hown hK hP 0 tw_g rfl 0 (by decide) (hts _ q1986) (fun _ h9 => h9) rfl dX5_isZero_6 ?_
      refine lv_iconst (v := 1) hx hb dX5_isZero_9 (by decide) ?_
      obtain ⟨g1, hF⟩ := gd_s hF
      refine va_iald hx hb hK hP 1 0 tw_e0 rfl (inB_in g1) dX5_isZero_10 ?_
      refine lv_icmp_ge (tgt := 39) hx hb dX5_isZero_11 (by decide) (fun c2 => ?_) (fun c2 => ?_)
      · replace hF := it_t c2 hF
        refine lv_iload_n hx hb dX5_isZero_39 rfl (lv_at hl 1 rfl) ?_
        obtain ⟨g3, hF⟩ := gd_s hF
        exact W.zret (v := x1) hx hb hr (zb_of g3) (fun t ht hW => ⟨⟨x1, σ, rfl, Option.some.inj hF, by rw [ht]; exact hP, va_K.moved hW.alike hK⟩, hS.F ht⟩) hS.2.2 dX5_isZero_40
      · replace hF := it_f c2 hF
        refine lv_iload_n hx hb dX5_isZero_14 rfl (lv_at hl 1 rfl) ?_
        refine lv_if_eq (tgt := 31) hx hb dX5_isZero_15 (by decide) (fun c4 => ?_) (fun c4 => ?_)
        · replace hF := it_t c4 hF
          refine lv_iconst (v := 0) hx hb dX5_isZero_31 (by decide) ?_
          refine lv_istore_n (lv' := [(1, .int 0), (0, .ref m0), (2, .int x2)]) hx hb dX5_isZero_32 rfl hl (by decide) rfl (fun ls hl => ?_)
          refine lv_iinc (v := (x2 + 1)) (lv' := [(2, .int (x2 + 1)), (1, .int 0), (0, .ref m0)]) hx hb dX5_isZero_33 hl (k := 2) rfl rfl (by decide) rfl (fun ls hl => ?_)
          refine lv_goto (tgt := 4) hx hb dX5_isZero_36 (by decide) ?_
          exact lp1 σ 0 (x2 + 1) hF _ _ hP hD hS ls (lv_sub hl [2, 1, 0] rfl)
        · replace hF := it_f c4 hF
          refine lv_aload_n hx hb dX5_isZero_18 rfl (lv_at hl 0 rfl) ?_
          refine va_get (D := (dC, dI)) (ci := 0) (v := .ref (ad 19)) (C := RX5) (T := TX5) (N := 28) hx hb hts in_X5 hown hK hP 0 tw_g rfl 19 (by decide) (hts _ q2005) (fun _ h9 => h9) rfl dX5_isZero_19 ?_
          refine lv_iload_n hx hb dX5_isZero_22 rfl (lv_at hl 2 rfl) ?_
          obtain ⟨g5, hF⟩ := gd_s hF
          refine va_iald hx hb hK hP 9 0 tw_e19 rfl (inB_in g5) dX5_isZero_23 ?_
          refine lv_if_ne (tgt := 31) hx hb dX5_isZero_24 (by decide) (fun c6 => ?_) (fun c6 => ?_)
          · replace hF := it_f c6 hF
            refine lv_iconst (v := 0) hx hb dX5_isZero_31 (by decide) ?_
            refine lv_istore_n (lv' := [(1, .int 0), (0, .ref m0), (2, .int x2)]) hx hb dX5_isZero_32 rfl hl (by decide) rfl (fun ls hl => ?_)
            refine lv_iinc (v := (x2 + 1)) (lv' := [(2, .int (x2 + 1)), (1, .int 0), (0, .ref m0)]) hx hb dX5_isZero_33 hl (k := 2) rfl rfl (by decide) rfl (fun ls hl => ?_)
            refine lv_goto (tgt := 4) hx hb dX5_isZero_36 (by decide) ?_
            exact lp1 σ 0 (x2 + 1) hF _ _ hP hD hS ls (lv_sub hl [2, 1, 0] rfl)
          · replace hF := it_t c6 hF
            refine lv_iconst (v := 1) hx hb dX5_isZero_27 (by decide) ?_
            refine lv_goto (tgt := 32) hx hb dX5_isZero_28 (by decide) ?_
            refine lv_istore_n (lv' := [(1, .int 1), (0, .ref m0), (2, .int x2)]) hx hb dX5_isZero_32 rfl hl (by decide) rfl (fun ls hl => ?_)
            refine lv_iinc (v := (x2 + 1)) (lv' := [(2, .int (x2 + 1)), (1, .int 1), (0, .ref m0)]) hx hb dX5_isZero_33 hl (k := 2) rfl rfl (by decide) rfl (fun ls hl => ?_)
            refine lv_goto (tgt := 4) hx hb dX5_isZero_36 (by decide) ?_
            exact lp1 σ 1 (x2 + 1) hF _ _ hP hD hS ls (lv_sub hl [2, 1, 0] rfl)
  have lp1 := loop n
  unfold F_isZero F_isZero_0 at hF
  refine lv_iconst (v := 1) hx hb dX5_isZero_0 (by decide) ?_
  refine lv_istore_n (lv' := [(1, .int 1), (0, .ref m0)]) hx hb dX5_isZero_1 rfl hl (by decide) rfl (fun ls hl => ?_)
  refine lv_iconst (v := 0) hx hb dX5_isZero_2 (by decide) ?_
  refine lv_istore_n (lv' := [(2, .int 0), (1, .int 1), (0, .ref m0)]) hx hb dX5_isZero_3 rfl hl (by decide) rfl (fun ls hl => ?_)
  exact lp1 σ 1 0 hF _ _ hP hD hS ls (lv_sub hl [2, 1, 0] rfl)

def F_ownProduct_1 (R : Nat → Tw → Int32 → Int32 → Option (Int32 × Tw)) (n : Nat) (σ : Tw) (x1 : Int32) (x2 : Int32) : Option (Int32 × Tw) := gd (inB 1 162) (if ((σ).2 0 (1 : Int32).toNatClampNeg) ≤ x2 then bnd (F_mod σ x1) (fun r3 u3 => some (r3, u3)) else gd (inB x2 8) (gd (inB x2 8) (R 1 σ (x1 + (((σ).2 19 (x2).toNatClampNeg) * ((σ).2 19 (x2).toNatClampNeg))) (x2 + 1))))
def F_ownProduct_r : Nat → Nat → Tw → Int32 → Int32 → Option (Int32 × Tw)
  | 0 => fun _ _ _ _ => none
  | n + 1 => fun k => match k with  | _ => F_ownProduct_1 (F_ownProduct_r n) n
def F_ownProduct_0 (R : Nat → Tw → Int32 → Int32 → Option (Int32 × Tw)) (n : Nat) (σ : Tw) : Option (Int32 × Tw) := R 1 σ 0 0
def F_ownProduct (n : Nat) (σ : Tw) : Option (Int32 × Tw) := F_ownProduct_0 (F_ownProduct_r n) n σ 
set_option maxHeartbeats 4000000 in
set_option maxRecDepth 100000 in
theorem mt_ownProduct (l : Launch) (dC : Nat → ClassId) (dI : Nat → Nat → Nat) (cI cZ : ClassId) (m0 : Nat) (ad : Nat → Nat) (sz : Nat) (σ : Tw) (n : Nat)  (out : Int32 × Tw) (hF : F_ownProduct n σ  = some out) : Met l yX5_ownProduct (ws_ yX5_ownProduct cX5_ownProduct 3 (some .int)) ({ frames := 2, cells := 0, slots := 0, locals := 43 }) (va_Pc [.ref m0] (tw_Pre dC dI cI cZ m0 ad sz σ)) (va_Qi (fun r u => (r, u) = out) (tw_B dC dI cI cZ m0 ad) (tw_A m0 ad sz)) 0 0 (tw_A m0 ad sz) := by
  refine Met.ofW (cc := cX5_ownProduct) (maxL := 3) (ret := (some .int)) (by decide +kernel) rfl ?_
  intro p e s m args below meth c s₁ B hml hv
  obtain ⟨rfl, hsz, hP, hK, hD0⟩ := hv
  have hx := B.exec
  have hb := B.bytes
  have hr := B.returns
  have hts := atoms_spec (ws := (ws_ yX5_ownProduct cX5_ownProduct 3 (some .int))) B.pre
  have hts : ∀ w ∈ lw_all, w.before _ s = true := fun w h => hts w (List.mem_cons_of_mem _ h)
  have hown : s.vm.findClass RX5 = some m.cls := findClass_of_methodNamed B.named
  have hlocks := B.notSynchronized
  subst hsz
  have hD := tw_Ds (z := s.heap.size) hD0
  have hAA := fun z (h : s.heap.size ≤ z) => tw_Am (m0 := m0) (ad := ad) h
  generalize hAe : tw_A m0 ad s.heap.size = A at hD hAA ⊢
  have hS : va_S A s.heap s.heap [] := va_S.rf
  have hP : va_P (dC, dI) vwCl (tw_ws m0 ad cI cZ σ) s.heap := hP
  have hl := lv_entry ([.ref m0]) (n := 3) (Nat.le_of_ble_eq_true rfl)
  rw [lg_entry_eq]
  generalize (lg_sl ([.ref m0]) ++ List.replicate (3 - (lg_sl ([.ref m0])).length) Slot.unset).toArray = ls at hl ⊢
  have hl : lv_has ls 3 [(0, .ref m0)] := hl
  have loop : ∀ n : Nat, (∀ (σ : Tw) (x1 x2 : Int32), F_ownProduct_r n 1 σ x1 x2 = some out → ∀ (H : Heap) (locs : List Loc), va_P (dC, dI) vwCl (tw_ws m0 ad cI cZ σ) H → va_D A (tw_ws m0 ad cI cZ σ) → va_S A s.heap H locs → ∀ ls : Array Slot, lv_has ls 3 [(0, .ref m0), (1, .int x1), (2, .int x2)] → W p l e (headSpec (ws_ yX5_ownProduct cX5_ownProduct 3 (some .int)) ({ frames := 2, cells := 0, slots := 0, locals := 43 })).room s m ([.ref m0] : List Value).toArray below meth c H locs 0 0 (MQ below (va_Qi (fun r u => (r, u) = out) (tw_B dC dI cI cZ m0 ad) A) ([.ref m0] : List Value).toArray s 0 0 A) (F0 m 4 ls [])) := by
    intro n
    induction n with
    | zero => exact (fun _ _ _ h => nomatch h)
    | succ n ih =>
      have lp1 := ih
      intro σ x1 x2 hF H locs hP hD hS ls hl
      replace hF : F_ownProduct_1 (F_ownProduct_r n) n σ x1 x2 = some out := hF
      unfold F_ownProduct_1 at hF
      refine lv_iload_n hx hb dX5_ownProduct_4 rfl (lv_at hl 2 rfl) ?_
      refine lv_aload_n hx hb dX5_ownProduct_5 rfl (lv_at hl 0 rfl) ?_
      refine va_get (D := (dC, dI)) (ci := 0) (v := .ref (ad 0)) (C := RX5) (T := TX5) (N := 28) hx hb hts in_X5 hown hK hP 0 tw_g rfl 0 (by decide) (hts _ q1986) (fun _ h9 => h9) rfl dX5_ownProduct_6 ?_
      refine lv_iconst (v := 1) hx hb dX5_ownProduct_9 (by decide) ?_
      obtain ⟨g1, hF⟩ := gd_s hF
      refine va_iald hx hb hK hP 1 0 tw_e0 rfl (inB_in g1) dX5_ownProduct_10 ?_
      refine lv_icmp_ge (tgt := 36) hx hb dX5_ownProduct_11 (by decide) (fun c2 => ?_) (fun c2 => ?_)
      · replace hF := it_t c2 hF
        refine lv_aload_n hx hb dX5_ownProduct_36 rfl (lv_at hl 0 rfl) ?_
        refine lv_iload_n hx hb dX5_ownProduct_37 rfl (lv_at hl 1 rfl) ?_
        obtain ⟨r3, u3, e3, hF⟩ := bnd_s hF
        refine tw_calli (va_runV (As := [.int x1]) (rest := []) ⟨hx, hb, hml, hown, hts⟩ (mt_mod l dC dI cI cZ m0 ad H.size σ  x1 _ e3) (cwV 1 hts (lw_V q2253 q2255 qs70 q125 q2256) rfl rfl rfl (by decide +kernel) ⟨Nat.le_of_ble_eq_true rfl, Nat.le_of_ble_eq_true rfl⟩) (tw_preV hK hP hD _) rfl rfl hl.1 rfl (lv_room (Nat.le_of_ble_eq_true rfl)) dX5_ownProduct_38 ⟨Nat.le_of_ble_eq_true rfl, Nat.le_of_ble_eq_true rfl⟩) hS hD hAA (fun rr uu H locs hw hP hD hS => ?_)
        obtain rfl : r3 = rr := (congrArg Prod.fst hw).symm
        obtain rfl : u3 = uu := (congrArg Prod.snd hw).symm
        exact W.iret (v := r3) hx hb hr (fun t ht hW => ⟨⟨r3, u3, rfl, Option.some.inj hF, by rw [ht]; exact hP, va_K.moved hW.alike hK⟩, hS.F ht⟩) hS.2.2 dX5_ownProduct_41
      · replace hF := it_f c2 hF
        refine lv_iload_n hx hb dX5_ownProduct_14 rfl (lv_at hl 1 rfl) ?_
        refine lv_aload_n hx hb dX5_ownProduct_15 rfl (lv_at hl 0 rfl) ?_
        refine va_get (D := (dC, dI)) (ci := 0) (v := .ref (ad 19)) (C := RX5) (T := TX5) (N := 28) hx hb hts in_X5 hown hK hP 0 tw_g rfl 19 (by decide) (hts _ q2005) (fun _ h9 => h9) rfl dX5_ownProduct_16 ?_
        refine lv_iload_n hx hb dX5_ownProduct_19 rfl (lv_at hl 2 rfl) ?_
        obtain ⟨g4, hF⟩ := gd_s hF
        refine va_iald hx hb hK hP 9 0 tw_e19 rfl (inB_in g4) dX5_ownProduct_20 ?_
        refine lv_aload_n hx hb dX5_ownProduct_21 rfl (lv_at hl 0 rfl) ?_
        refine va_get (D := (dC, dI)) (ci := 0) (v := .ref (ad 19)) (C := RX5) (T := TX5) (N := 28) hx hb hts in_X5 hown hK hP 0 tw_g rfl 19 (by decide) (hts _ q2005) (fun _ h9 => h9) rfl dX5_ownProduct_22 ?_
        refine lv_iload_n hx hb dX5_ownProduct_25 rfl (lv_at hl 2 rfl) ?_
        obtain ⟨g5, hF⟩ := gd_s hF
        refine va_iald hx hb hK hP 9 0 tw_e19 rfl (inB_in g5) dX5_ownProduct_26 ?_
        refine lv_imul hx hb dX5_ownProduct_27 ?_
        refine lv_iadd hx hb dX5_ownProduct_28 ?_
        refine lv_istore_n (lv' := [(1, .int (x1 + (((σ).2 19 (x2).toNatClampNeg) * ((σ).2 19 (x2).toNatClampNeg)))), (0, .ref m0), (2, .int x2)]) hx hb dX5_ownProduct_29 rfl hl (by decide) rfl (fun ls hl => ?_)
        refine lv_iinc (v := (x2 + 1)) (lv' := [(2, .int (x2 + 1)), (1, .int (x1 + (((σ).2 19 (x2).toNatClampNeg) * ((σ).2 19 (x2).toNatClampNeg)))), (0, .ref m0)]) hx hb dX5_ownProduct_30 hl (k := 2) rfl rfl (by decide) rfl (fun ls hl => ?_)
        refine lv_goto (tgt := 4) hx hb dX5_ownProduct_33 (by decide) ?_
        exact lp1 σ (x1 + (((σ).2 19 (x2).toNatClampNeg) * ((σ).2 19 (x2).toNatClampNeg))) (x2 + 1) hF _ _ hP hD hS ls (lv_sub hl [2, 1, 0] rfl)
  have lp1 := loop n
  unfold F_ownProduct F_ownProduct_0 at hF
  refine lv_iconst (v := 0) hx hb dX5_ownProduct_0 (by decide) ?_
  refine lv_istore_n (lv' := [(1, .int 0), (0, .ref m0)]) hx hb dX5_ownProduct_1 rfl hl (by decide) rfl (fun ls hl => ?_)
  refine lv_iconst (v := 0) hx hb dX5_ownProduct_2 (by decide) ?_
  refine lv_istore_n (lv' := [(2, .int 0), (1, .int 0), (0, .ref m0)]) hx hb dX5_ownProduct_3 rfl hl (by decide) rfl (fun ls hl => ?_)
  exact lp1 σ 0 0 hF _ _ hP hD hS ls (lv_sub hl [2, 1, 0] rfl)

def F_directionsOf_1 (R : Nat → Tw → Int32 → Int32 → Int32 → Option (Int32 × Tw)) (n : Nat) (σ : Tw) (x1 : Int32) (x2 : Int32) (x3 : Int32) : Option (Int32 × Tw) := gd (inB 5 162) (if ((σ).2 0 (5 : Int32).toNatClampNeg) ≤ x3 then some (x2, σ) else gd (inB (81 + x3) 162) (if ((σ).2 0 ((81 + x3)).toNatClampNeg) = x1 then R 1 σ x1 (x2 + 1) (x3 + 1) else R 1 σ x1 (x2 + 0) (x3 + 1)))
def F_directionsOf_r : Nat → Nat → Tw → Int32 → Int32 → Int32 → Option (Int32 × Tw)
  | 0 => fun _ _ _ _ _ => none
  | n + 1 => fun k => match k with  | _ => F_directionsOf_1 (F_directionsOf_r n) n
def F_directionsOf_0 (R : Nat → Tw → Int32 → Int32 → Int32 → Option (Int32 × Tw)) (n : Nat) (σ : Tw) (p1 : Int32) : Option (Int32 × Tw) := R 1 σ p1 0 0
def F_directionsOf (n : Nat) (σ : Tw) (p1 : Int32) : Option (Int32 × Tw) := F_directionsOf_0 (F_directionsOf_r n) n σ p1
set_option maxHeartbeats 4000000 in
set_option maxRecDepth 100000 in
theorem mt_directionsOf (l : Launch) (dC : Nat → ClassId) (dI : Nat → Nat → Nat) (cI cZ : ClassId) (m0 : Nat) (ad : Nat → Nat) (sz : Nat) (σ : Tw) (n : Nat)  (p1 : Int32) (out : Int32 × Tw) (hF : F_directionsOf n σ p1 = some out) : Met l yX5_directionsOf (ws_ yX5_directionsOf cX5_directionsOf 4 (some .int)) ({ frames := 0, cells := 0, slots := 0, locals := 0 }) (va_Pc [.ref m0, .int p1] (tw_Pre dC dI cI cZ m0 ad sz σ)) (va_Qi (fun r u => (r, u) = out) (tw_B dC dI cI cZ m0 ad) (tw_A m0 ad sz)) 0 0 (tw_A m0 ad sz) := by
  refine Met.ofW (cc := cX5_directionsOf) (maxL := 4) (ret := (some .int)) (by decide +kernel) rfl ?_
  intro p e s m args below meth c s₁ B hml hv
  obtain ⟨rfl, hsz, hP, hK, hD0⟩ := hv
  have hx := B.exec
  have hb := B.bytes
  have hr := B.returns
  have hts := atoms_spec (ws := (ws_ yX5_directionsOf cX5_directionsOf 4 (some .int))) B.pre
  have hts : ∀ w ∈ lw_all, w.before _ s = true := fun w h => hts w (List.mem_cons_of_mem _ h)
  have hown : s.vm.findClass RX5 = some m.cls := findClass_of_methodNamed B.named
  have hlocks := B.notSynchronized
  subst hsz
  have hD := tw_Ds (z := s.heap.size) hD0
  have hAA := fun z (h : s.heap.size ≤ z) => tw_Am (m0 := m0) (ad := ad) h
  generalize hAe : tw_A m0 ad s.heap.size = A at hD hAA ⊢
  have hS : va_S A s.heap s.heap [] := va_S.rf
  have hP : va_P (dC, dI) vwCl (tw_ws m0 ad cI cZ σ) s.heap := hP
  have hl := lv_entry ([.ref m0, .int p1]) (n := 4) (Nat.le_of_ble_eq_true rfl)
  rw [lg_entry_eq]
  generalize (lg_sl ([.ref m0, .int p1]) ++ List.replicate (4 - (lg_sl ([.ref m0, .int p1])).length) Slot.unset).toArray = ls at hl ⊢
  have hl : lv_has ls 4 [(0, .ref m0), (1, .int p1)] := hl
  have loop : ∀ n : Nat, (∀ (σ : Tw) (x1 x2 x3 : Int32), F_directionsOf_r n 1 σ x1 x2 x3 = some out → ∀ (H : Heap) (locs : List Loc), va_P (dC, dI) vwCl (tw_ws m0 ad cI cZ σ) H → va_D A (tw_ws m0 ad cI cZ σ) → va_S A s.heap H locs → ∀ ls : Array Slot, lv_has ls 4 [(0, .ref m0), (1, .int x1), (2, .int x2), (3, .int x3)] → W p l e (headSpec (ws_ yX5_directionsOf cX5_directionsOf 4 (some .int)) ({ frames := 0, cells := 0, slots := 0, locals := 0 })).room s m ([.ref m0, .int p1] : List Value).toArray below meth c H locs 0 0 (MQ below (va_Qi (fun r u => (r, u) = out) (tw_B dC dI cI cZ m0 ad) A) ([.ref m0, .int p1] : List Value).toArray s 0 0 A) (F0 m 4 ls [])) := by
    intro n
    induction n with
    | zero => exact (fun _ _ _ _ h => nomatch h)
    | succ n ih =>
      have lp1 := ih
      intro σ x1 x2 x3 hF H locs hP hD hS ls hl
      replace hF : F_directionsOf_1 (F_directionsOf_r n) n σ x1 x2 x3 = some out := hF
      unfold F_directionsOf_1 at hF
      refine lv_iload_n hx hb dX5_directionsOf_4 rfl (lv_at hl 3 rfl) ?_
      refine lv_aload_n hx hb dX5_directionsOf_5 rfl (lv_at hl 0 rfl) ?_
      refine va_get (D := (dC, dI)) (ci := 0) (v := .ref (ad 0)) (C := RX5) (T := TX5) (N := 28) hx hb hts in_X5 hown hK hP 0 tw_g rfl 0 (by decide) (hts _ q1986) (fun _ h9 => h9) rfl dX5_directionsOf_6 ?_
      refine lv_iconst (v := 5) hx hb dX5_directionsOf_9 (by decide) ?_
      obtain ⟨g1, hF⟩ := gd_s hF
      refine va_iald hx hb hK hP 1 0 tw_e0 rfl (inB_in g1) dX5_directionsOf_10 ?_
      refine lv_icmp_ge (tgt := 41) hx hb dX5_directionsOf_11 (by decide) (fun c2 => ?_) (fun c2 => ?_)
      · replace hF := it_t c2 hF
        refine lv_iload_n hx hb dX5_directionsOf_41 rfl (lv_at hl 2 rfl) ?_
        exact W.iret (v := x2) hx hb hr (fun t ht hW => ⟨⟨x2, σ, rfl, Option.some.inj hF, by rw [ht]; exact hP, va_K.moved hW.alike hK⟩, hS.F ht⟩) hS.2.2 dX5_directionsOf_42
      · replace hF := it_f c2 hF
        refine lv_iload_n hx hb dX5_directionsOf_14 rfl (lv_at hl 2 rfl) ?_
        refine lv_aload_n hx hb dX5_directionsOf_15 rfl (lv_at hl 0 rfl) ?_
        refine va_get (D := (dC, dI)) (ci := 0) (v := .ref (ad 0)) (C := RX5) (T := TX5) (N := 28) hx hb hts in_X5 hown hK hP 0 tw_g rfl 0 (by decide) (hts _ q1986) (fun _ h9 => h9) rfl dX5_directionsOf_16 ?_
        refine lv_bipush (v := 81) hx hb dX5_directionsOf_19 (by decide) ?_
        refine lv_iload_n hx hb dX5_directionsOf_21 rfl (lv_at hl 3 rfl) ?_
        refine lv_iadd hx hb dX5_directionsOf_22 ?_
        obtain ⟨g3, hF⟩ := gd_s hF
        refine va_iald hx hb hK hP 1 0 tw_e0 rfl (inB_in g3) dX5_directionsOf_23 ?_
        refine lv_iload_n hx hb dX5_directionsOf_24 rfl (lv_at hl 1 rfl) ?_
        refine lv_icmp_ne (tgt := 32) hx hb dX5_directionsOf_25 (by decide) (fun c4 => ?_) (fun c4 => ?_)
        · replace hF := it_f c4 hF
          refine lv_iconst (v := 0) hx hb dX5_directionsOf_32 (by decide) ?_
          refine lv_iadd hx hb dX5_directionsOf_33 ?_
          refine lv_istore_n (lv' := [(2, .int (x2 + 0)), (0, .ref m0), (1, .int x1), (3, .int x3)]) hx hb dX5_directionsOf_34 rfl hl (by decide) rfl (fun ls hl => ?_)
          refine lv_iinc (v := (x3 + 1)) (lv' := [(3, .int (x3 + 1)), (2, .int (x2 + 0)), (0, .ref m0), (1, .int x1)]) hx hb dX5_directionsOf_35 hl (k := 3) rfl rfl (by decide) rfl (fun ls hl => ?_)
          refine lv_goto (tgt := 4) hx hb dX5_directionsOf_38 (by decide) ?_
          exact lp1 σ x1 (x2 + 0) (x3 + 1) hF _ _ hP hD hS ls (lv_sub hl [2, 3, 1, 0] rfl)
        · replace hF := it_t c4 hF
          refine lv_iconst (v := 1) hx hb dX5_directionsOf_28 (by decide) ?_
          refine lv_goto (tgt := 33) hx hb dX5_directionsOf_29 (by decide) ?_
          refine lv_iadd hx hb dX5_directionsOf_33 ?_
          refine lv_istore_n (lv' := [(2, .int (x2 + 1)), (0, .ref m0), (1, .int x1), (3, .int x3)]) hx hb dX5_directionsOf_34 rfl hl (by decide) rfl (fun ls hl => ?_)
          refine lv_iinc (v := (x3 + 1)) (lv' := [(3, .int (x3 + 1)), (2, .int (x2 + 1)), (0, .ref m0), (1, .int x1)]) hx hb dX5_directionsOf_35 hl (k := 3) rfl rfl (by decide) rfl (fun ls hl => ?_)
          refine lv_goto (tgt := 4) hx hb dX5_directionsOf_38 (by decide) ?_
          exact lp1 σ x1 (x2 + 1) (x3 + 1) hF _ _ hP hD hS ls (lv_sub hl [2, 3, 1, 0] rfl)
  have lp1 := loop n
  unfold F_directionsOf F_directionsOf_0 at hF
  refine lv_iconst (v := 0) hx hb dX5_directionsOf_0 (by decide) ?_
  refine lv_istore_n (lv' := [(2, .int 0), (0, .ref m0), (1, .int p1)]) hx hb dX5_directionsOf_1 rfl hl (by decide) rfl (fun ls hl => ?_)
  refine lv_iconst (v := 0) hx hb dX5_directionsOf_2 (by decide) ?_
  refine lv_istore_n (lv' := [(3, .int 0), (2, .int 0), (0, .ref m0), (1, .int p1)]) hx hb dX5_directionsOf_3 rfl hl (by decide) rfl (fun ls hl => ?_)
  exact lp1 σ p1 0 0 hF _ _ hP hD hS ls (lv_sub hl [2, 3, 1, 0] rfl)

def F_firstOf_1 (R : Nat → Tw → Int32 → Int32 → Option (Int32 × Tw)) (n : Nat) (σ : Tw) (x1 : Int32) (x2 : Int32) : Option (Int32 × Tw) := gd (inB 5 162) (if ((σ).2 0 (5 : Int32).toNatClampNeg) ≤ x2 then gd (inB 5 162) (if x2 = ((σ).2 0 (5 : Int32).toNatClampNeg) then some ((-1), σ) else some (x2, σ)) else gd (inB (81 + x2) 162) (if ((σ).2 0 ((81 + x2)).toNatClampNeg) = x1 then gd (inB 5 162) (if x2 = ((σ).2 0 (5 : Int32).toNatClampNeg) then some ((-1), σ) else some (x2, σ)) else R 1 σ x1 (x2 + 1)))
def F_firstOf_r : Nat → Nat → Tw → Int32 → Int32 → Option (Int32 × Tw)
  | 0 => fun _ _ _ _ => none
  | n + 1 => fun k => match k with  | _ => F_firstOf_1 (F_firstOf_r n) n
def F_firstOf_0 (R : Nat → Tw → Int32 → Int32 → Option (Int32 × Tw)) (n : Nat) (σ : Tw) (p1 : Int32) : Option (Int32 × Tw) := R 1 σ p1 0
def F_firstOf (n : Nat) (σ : Tw) (p1 : Int32) : Option (Int32 × Tw) := F_firstOf_0 (F_firstOf_r n) n σ p1
set_option maxHeartbeats 4000000 in
set_option maxRecDepth 100000 in
theorem mt_firstOf (l : Launch) (dC : Nat → ClassId) (dI : Nat → Nat → Nat) (cI cZ : ClassId) (m0 : Nat) (ad : Nat → Nat) (sz : Nat) (σ : Tw) (n : Nat)  (p1 : Int32) (out : Int32 × Tw) (hF : F_firstOf n σ p1 = some out) : Met l yX5_firstOf (ws_ yX5_firstOf cX5_firstOf 3 (some .int)) ({ frames := 0, cells := 0, slots := 0, locals := 0 }) (va_Pc [.ref m0, .int p1] (tw_Pre dC dI cI cZ m0 ad sz σ)) (va_Qi (fun r u => (r, u) = out) (tw_B dC dI cI cZ m0 ad) (tw_A m0 ad sz)) 0 0 (tw_A m0 ad sz) := by
  refine Met.ofW (cc := cX5_firstOf) (maxL := 3) (ret := (some .int)) (by decide +kernel) rfl ?_
  intro p e s m args below meth c s₁ B hml hv
  obtain ⟨rfl, hsz, hP, hK, hD0⟩ := hv
  have hx := B.exec
  have hb := B.bytes
  have hr := B.returns
  have hts := atoms_spec (ws := (ws_ yX5_firstOf cX5_firstOf 3 (some .int))) B.pre
  have hts : ∀ w ∈ lw_all, w.before _ s = true := fun w h => hts w (List.mem_cons_of_mem _ h)
  have hown : s.vm.findClass RX5 = some m.cls := findClass_of_methodNamed B.named
  have hlocks := B.notSynchronized
  subst hsz
  have hD := tw_Ds (z := s.heap.size) hD0
  have hAA := fun z (h : s.heap.size ≤ z) => tw_Am (m0 := m0) (ad := ad) h
  generalize hAe : tw_A m0 ad s.heap.size = A at hD hAA ⊢
  have hS : va_S A s.heap s.heap [] := va_S.rf
  have hP : va_P (dC, dI) vwCl (tw_ws m0 ad cI cZ σ) s.heap := hP
  have hl := lv_entry ([.ref m0, .int p1]) (n := 3) (Nat.le_of_ble_eq_true rfl)
  rw [lg_entry_eq]
  generalize (lg_sl ([.ref m0, .int p1]) ++ List.replicate (3 - (lg_sl ([.ref m0, .int p1])).length) Slot.unset).toArray = ls at hl ⊢
  have hl : lv_has ls 3 [(0, .ref m0), (1, .int p1)] := hl
  have loop : ∀ n : Nat, (∀ (σ : Tw) (x1 x2 : Int32), F_firstOf_r n 1 σ x1 x2 = some out → ∀ (H : Heap) (locs : List Loc), va_P (dC, dI) vwCl (tw_ws m0 ad cI cZ σ) H → va_D A (tw_ws m0 ad cI cZ σ) → va_S A s.heap H locs → ∀ ls : Array Slot, lv_has ls 3 [(0, .ref m0), (1, .int x1), (2, .int x2)] → W p l e (headSpec (ws_ yX5_firstOf cX5_firstOf 3 (some .int)) ({ frames := 0, cells := 0, slots := 0, locals := 0 })).room s m ([.ref m0, .int p1] : List Value).toArray below meth c H locs 0 0 (MQ below (va_Qi (fun r u => (r, u) = out) (tw_B dC dI cI cZ m0 ad) A) ([.ref m0, .int p1] : List Value).toArray s 0 0 A) (F0 m 2 ls [])) := by
    intro n
    induction n with
    | zero => exact (fun _ _ _ h => nomatch h)
    | succ n ih =>
      have lp1 := ih
      intro σ x1 x2 hF H locs hP hD hS ls hl
      replace hF : F_firstOf_1 (F_firstOf_r n) n σ x1 x2 = some out := hF
      unfold F_firstOf_1 at hF
      refine lv_iload_n hx hb dX5_firstOf_2 rfl (lv_at hl 2 rfl) ?_
      refine lv_aload_n hx hb dX5_firstOf_3 rfl (lv_at hl 0 rfl) ?_
      refine va_get (D := (dC, dI)) (ci := 0) (v := .ref (ad 0)) (C := RX5) (T := TX5) (N := 28) hx hb hts in_X5 hown hK hP 0 tw_g rfl 0 (by decide) (hts _ q1986) (fun _ h9 => h9) rfl dX5_firstOf_4 ?_
      refine lv_iconst (v := 5) hx hb dX5_firstOf_7 (by decide) ?_
      obtain ⟨g1, hF⟩ := gd_s hF
      refine va_iald hx hb hK hP 1 0 tw_e0 rfl (inB_in g1) dX5_firstOf_8 ?_
      refine lv_icmp_ge (tgt := 31) hx hb dX5_firstOf_9 (by decide) (fun c2 => ?_) (fun c2 => ?_)
      · replace hF := it_t c2 hF
        refine lv_iload_n hx hb dX5_firstOf_31 rfl (lv_at hl 2 rfl) ?_
        refine lv_aload_n hx hb dX5_firstOf_32 rfl (lv_at hl 0 rfl) ?_
        refine va_get (D := (dC, dI)) (ci := 0) (v := .ref (ad 0)) (C := RX5) (T := TX5) (N := 28) hx hb hts in_X5 hown hK hP 0 tw_g rfl 0 (by decide) (hts _ q1986) (fun _ h9 => h9) rfl dX5_firstOf_33 ?_
        refine lv_iconst (v := 5) hx hb dX5_firstOf_36 (by decide) ?_
        obtain ⟨g3, hF⟩ := gd_s hF
        refine va_iald hx hb hK hP 1 0 tw_e0 rfl (inB_in g3) dX5_firstOf_37 ?_
        refine lv_icmp_ne (tgt := 45) hx hb dX5_firstOf_38 (by decide) (fun c4 => ?_) (fun c4 => ?_)
        · replace hF := it_f c4 hF
          refine lv_iload_n hx hb dX5_firstOf_45 rfl (lv_at hl 2 rfl) ?_
          exact W.iret (v := x2) hx hb hr (fun t ht hW => ⟨⟨x2, σ, rfl, Option.some.inj hF, by rw [ht]; exact hP, va_K.moved hW.alike hK⟩, hS.F ht⟩) hS.2.2 dX5_firstOf_46
        · replace hF := it_t c4 hF
          refine lv_iconst (v := (-1)) hx hb dX5_firstOf_41 (by decide) ?_
          refine lv_goto (tgt := 46) hx hb dX5_firstOf_42 (by decide) ?_
          exact W.iret (v := (-1)) hx hb hr (fun t ht hW => ⟨⟨(-1), σ, rfl, Option.some.inj hF, by rw [ht]; exact hP, va_K.moved hW.alike hK⟩, hS.F ht⟩) hS.2.2 dX5_firstOf_46
      · replace hF := it_f c2 hF
        refine lv_aload_n hx hb dX5_firstOf_12 rfl (lv_at hl 0 rfl) ?_
        refine va_get (D := (dC, dI)) (ci := 0) (v := .ref (ad 0)) (C := RX5) (T := TX5) (N := 28) hx hb hts in_X5 hown hK hP 0 tw_g rfl 0 (by decide) (hts _ q1986) (fun _ h9 => h9) rfl dX5_firstOf_13 ?_
        refine lv_bipush (v := 81) hx hb dX5_firstOf_16 (by decide) ?_
        refine lv_iload_n hx hb dX5_firstOf_18 rfl (lv_at hl 2 rfl) ?_
        refine lv_iadd hx hb dX5_firstOf_19 ?_
        obtain ⟨g5, hF⟩ := gd_s hF
        refine va_iald hx hb hK hP 1 0 tw_e0 rfl (inB_in g5) dX5_firstOf_20 ?_
        refine lv_iload_n hx hb dX5_firstOf_21 rfl (lv_at hl 1 rfl) ?_
        refine lv_icmp_eq (tgt := 31) hx hb dX5_firstOf_22 (by decide) (fun c6 => ?_) (fun c6 => ?_)
        · replace hF := it_t c6 hF
          refine lv_iload_n hx hb dX5_firstOf_31 rfl (lv_at hl 2 rfl) ?_
          refine lv_aload_n hx hb dX5_firstOf_32 rfl (lv_at hl 0 rfl) ?_
          refine va_get (D := (dC, dI)) (ci := 0) (v := .ref (ad 0)) (C := RX5) (T := TX5) (N := 28) hx hb hts in_X5 hown hK hP 0 tw_g rfl 0 (by decide) (hts _ q1986) (fun _ h9 => h9) rfl dX5_firstOf_33 ?_
          refine lv_iconst (v := 5) hx hb dX5_firstOf_36 (by decide) ?_
          obtain ⟨g7, hF⟩ := gd_s hF
          refine va_iald hx hb hK hP 1 0 tw_e0 rfl (inB_in g7) dX5_firstOf_37 ?_
          refine lv_icmp_ne (tgt := 45) hx hb dX5_firstOf_38 (by decide) (fun c8 => ?_) (fun c8 => ?_)
          · replace hF := it_f c8 hF
            refine lv_iload_n hx hb dX5_firstOf_45 rfl (lv_at hl 2 rfl) ?_
            exact W.iret (v := x2) hx hb hr (fun t ht hW => ⟨⟨x2, σ, rfl, Option.some.inj hF, by rw [ht]; exact hP, va_K.moved hW.alike hK⟩, hS.F ht⟩) hS.2.2 dX5_firstOf_46
          · replace hF := it_t c8 hF
            refine lv_iconst (v := (-1)) hx hb dX5_firstOf_41 (by decide) ?_
            refine lv_goto (tgt := 46) hx hb dX5_firstOf_42 (by decide) ?_
            exact W.iret (v := (-1)) hx hb hr (fun t ht hW => ⟨⟨(-1), σ, rfl, Option.some.inj hF, by rw [ht]; exact hP, va_K.moved hW.alike hK⟩, hS.F ht⟩) hS.2.2 dX5_firstOf_46
        · replace hF := it_f c6 hF
          refine lv_iinc (v := (x2 + 1)) (lv' := [(2, .int (x2 + 1)), (0, .ref m0), (1, .int x1)]) hx hb dX5_firstOf_25 hl (k := 2) rfl rfl (by decide) rfl (fun ls hl => ?_)
          refine lv_goto (tgt := 2) hx hb dX5_firstOf_28 (by decide) ?_
          exact lp1 σ x1 (x2 + 1) hF _ _ hP hD hS ls (lv_sub hl [1, 2, 0] rfl)
  have lp1 := loop n
  unfold F_firstOf F_firstOf_0 at hF
  refine lv_iconst (v := 0) hx hb dX5_firstOf_0 (by decide) ?_
  refine lv_istore_n (lv' := [(2, .int 0), (0, .ref m0), (1, .int p1)]) hx hb dX5_firstOf_1 rfl hl (by decide) rfl (fun ls hl => ?_)
  exact lp1 σ p1 0 hF _ _ hP hD hS ls (lv_sub hl [1, 2, 0] rfl)

def F_follows_1 (R : Nat → Tw → Int32 → Int32 → Option (Int32 × Tw)) (n : Nat) (σ : Tw) (x1 : Int32) (x2 : Int32) : Option (Int32 × Tw) := gd (inB 1 162) (if ((σ).2 0 (1 : Int32).toNatClampNeg) ≤ x2 then bnd (F_partOf_y n σ x1) (fun r9 u9 => bnd (F_takesAway_c n u9 r9 x1) (fun r10 u10 => gd (inB 6 162) (bnd (F_directionsOf n u10 (((u10).2 0 (6 : Int32).toNatClampNeg) - 1)) (fun r12 u12 => if r12 ≤ 1 then some (0, u12) else bnd (F_normOf n u12 x1) (fun r14 u14 => bnd (F_normOf n u14 (x1 - 1)) (fun r15 u15 => bnd (F_quotient n u15 r14 r15) (fun r16 u16 => bnd (F_takesAway_c n u16 r16 (x1 - 1)) (fun r17 u17 => some (0, u17))))))))) else gd (inB x2 8) (gd (inB x2 8) (R 1 (tw_sa σ 19 (x2).toNatClampNeg ((σ).2 18 (x2).toNatClampNeg)) x1 (x2 + 1))))
def F_follows_r : Nat → Nat → Tw → Int32 → Int32 → Option (Int32 × Tw)
  | 0 => fun _ _ _ _ => none
  | n + 1 => fun k => match k with  | _ => F_follows_1 (F_follows_r n) n
def F_follows_0 (R : Nat → Tw → Int32 → Int32 → Option (Int32 × Tw)) (n : Nat) (σ : Tw) : Option (Int32 × Tw) := gd (inB 5 162) (bnd (F_lays_x n σ (((σ).2 0 (5 : Int32).toNatClampNeg) - 1)) (fun r2 u2 => bnd (F_multiplies_xy n u2 ) (fun r3 u3 => gd (inB 4 162) (if ((u3).2 0 (4 : Int32).toNatClampNeg) = 1 then bnd (F_remains_y n u3 ) (fun r6 u6 => some (0, u6)) else R 1 u3 (((σ).2 0 (5 : Int32).toNatClampNeg) - 1) 0))))
def F_follows (n : Nat) (σ : Tw) : Option (Int32 × Tw) := F_follows_0 (F_follows_r n) n σ 
set_option maxHeartbeats 4000000 in
set_option maxRecDepth 100000 in
theorem mt_follows (l : Launch) (dC : Nat → ClassId) (dI : Nat → Nat → Nat) (cI cZ : ClassId) (m0 : Nat) (ad : Nat → Nat) (sz : Nat) (σ : Tw) (n : Nat)  (out : Int32 × Tw) (hF : F_follows n σ  = some out) : Met l yX5_follows (ws_ yX5_follows cX5_follows 3 none) ({ frames := 6, cells := 0, slots := 0, locals := 134 }) (va_Pc [.ref m0] (tw_Pre dC dI cI cZ m0 ad sz σ)) (va_Qv (fun u => (0, u) = out) (tw_B dC dI cI cZ m0 ad) (tw_A m0 ad sz)) 0 0 (tw_A m0 ad sz) := by
  refine Met.ofW (cc := cX5_follows) (maxL := 3) (ret := none) (by decide +kernel) rfl ?_
  intro p e s m args below meth c s₁ B hml hv
  obtain ⟨rfl, hsz, hP, hK, hD0⟩ := hv
  have hx := B.exec
  have hb := B.bytes
  have hr := B.returns
  have hts := atoms_spec (ws := (ws_ yX5_follows cX5_follows 3 none)) B.pre
  have hts : ∀ w ∈ lw_all, w.before _ s = true := fun w h => hts w (List.mem_cons_of_mem _ h)
  have hown : s.vm.findClass RX5 = some m.cls := findClass_of_methodNamed B.named
  have hlocks := B.notSynchronized
  subst hsz
  have hD := tw_Ds (z := s.heap.size) hD0
  have hAA := fun z (h : s.heap.size ≤ z) => tw_Am (m0 := m0) (ad := ad) h
  generalize hAe : tw_A m0 ad s.heap.size = A at hD hAA ⊢
  have hS : va_S A s.heap s.heap [] := va_S.rf
  have hP : va_P (dC, dI) vwCl (tw_ws m0 ad cI cZ σ) s.heap := hP
  have hl := lv_entry ([.ref m0]) (n := 3) (Nat.le_of_ble_eq_true rfl)
  rw [lg_entry_eq]
  generalize (lg_sl ([.ref m0]) ++ List.replicate (3 - (lg_sl ([.ref m0])).length) Slot.unset).toArray = ls at hl ⊢
  have hl : lv_has ls 3 [(0, .ref m0)] := hl
  have loop : ∀ n : Nat, (∀ (σ : Tw) (x1 x2 : Int32), F_follows_r n 1 σ x1 x2 = some out → ∀ (H : Heap) (locs : List Loc), va_P (dC, dI) vwCl (tw_ws m0 ad cI cZ σ) H → va_D A (tw_ws m0 ad cI cZ σ) → va_S A s.heap H locs → ∀ ls : Array Slot, lv_has ls 3 [(0, .ref m0), (1, .int x1), (2, .int x2)] → W p l e (headSpec (ws_ yX5_follows cX5_follows 3 none) ({ frames := 6, cells := 0, slots := 0, locals := 134 })).room s m ([.ref m0] : List Value).toArray below meth c H locs 0 0 (MQ below (va_Qv (fun u => (0, u) = out) (tw_B dC dI cI cZ m0 ad) A) ([.ref m0] : List Value).toArray s 0 0 A) (F0 m 51 ls [])) := by
    intro n
    induction n with
    | zero => exact (fun _ _ _ h => nomatch h)
    | succ n ih =>
      have lp1 := ih
      intro σ x1 x2 hF H locs hP hD hS ls hl
      replace hF : F_follows_1 (F_follows_r n) n σ x1 x2 = some out := hF
      unfold F_follows_1 at hF
      refine lv_iload_n hx hb dX5_follows_51 rfl (lv_at hl 2 rfl) ?_
      refine lv_aload_n hx hb dX5_follows_52 rfl (lv_at hl 0 rfl) ?_
      refine va_get (D := (dC, dI)) (ci := 0) (v := .ref (ad 0)) (C := RX5) (T := TX5) (N := 28) hx hb hts in_X5 hown hK hP 0 tw_g rfl 0 (by decide) (hts _ q1986) (fun _ h9 => h9) rfl dX5_follows_53 ?_
      refine lv_iconst (v := 1) hx hb dX5_follows_56 (by decide) ?_
      obtain ⟨g7, hF⟩ := gd_s hF
      refine va_iald hx hb hK hP 1 0 tw_e0 rfl (inB_in g7) dX5_follows_57 ?_
      refine lv_icmp_ge (tgt := 79) hx hb dX5_follows_58 (by decide) (fun c8 => ?_) (fun c8 => ?_)
      · replace hF := it_t c8 hF
        refine lv_aload_n hx hb dX5_follows_79 rfl (lv_at hl 0 rfl) ?_
        refine lv_aload_n hx hb dX5_follows_80 rfl (lv_at hl 0 rfl) ?_
        refine va_get (D := (dC, dI)) (ci := 0) (v := .ref (ad 19)) (C := RX5) (T := TX5) (N := 28) hx hb hts in_X5 hown hK hP 0 tw_g rfl 19 (by decide) (hts _ q2005) (fun _ h9 => h9) rfl dX5_follows_81 ?_
        refine lv_aload_n hx hb dX5_follows_84 rfl (lv_at hl 0 rfl) ?_
        refine lv_aload_n hx hb dX5_follows_85 rfl (lv_at hl 0 rfl) ?_
        refine va_get (D := (dC, dI)) (ci := 0) (v := .ref (ad 18)) (C := RX5) (T := TX5) (N := 28) hx hb hts in_X5 hown hK hP 0 tw_g rfl 18 (by decide) (hts _ q2004) (fun _ h9 => h9) rfl dX5_follows_86 ?_
        refine lv_iload_n hx hb dX5_follows_89 rfl (lv_at hl 1 rfl) ?_
        obtain ⟨r9, u9, e9, hF⟩ := bnd_s hF
        refine tw_calli (va_runV (As := [.ref (ad 18), .int x1]) (rest := [.ref (ad 19), .ref m0]) ⟨hx, hb, hml, hown, hts⟩ (mt_partOf_y l dC dI cI cZ m0 ad H.size σ n  x1 _ e9) (cwV 2 hts (lw_V q2264 q2266 qs72 q125 q2267) rfl rfl rfl (by decide +kernel) ⟨Nat.le_of_ble_eq_true rfl, Nat.le_of_ble_eq_true rfl⟩) (tw_preV hK hP hD _) rfl rfl hl.1 rfl (lv_room (Nat.le_of_ble_eq_true rfl)) dX5_follows_90 ⟨Nat.le_of_ble_eq_true rfl, Nat.le_of_ble_eq_true rfl⟩) hS hD hAA (fun rr uu H locs hw hP hD hS => ?_)
        obtain rfl : r9 = rr := (congrArg Prod.fst hw).symm
        obtain rfl : u9 = uu := (congrArg Prod.snd hw).symm
        refine lv_iload_n hx hb dX5_follows_93 rfl (lv_at hl 1 rfl) ?_
        obtain ⟨r10, u10, e10, hF⟩ := bnd_s hF
        refine tw_callv (va_runV (As := [.ref (ad 19), .int r9, .int x1]) (rest := []) ⟨hx, hb, hml, hown, hts⟩ (mt_takesAway_c l dC dI cI cZ m0 ad H.size u9 n  r9 x1 _ e10) (cwV 3 hts (lw_V q2284 q2286 qs77 q125 q2287) rfl rfl rfl (by decide +kernel) ⟨Nat.le_of_ble_eq_true rfl, Nat.le_of_ble_eq_true rfl⟩) (tw_preV hK hP hD _) rfl rfl hl.1 rfl (lv_room (Nat.le_of_ble_eq_true rfl)) dX5_follows_94 ⟨Nat.le_of_ble_eq_true rfl, Nat.le_of_ble_eq_true rfl⟩) hS hD hAA (fun uu H locs hw hP hD hS => ?_)
        obtain rfl : u10 = uu := (congrArg Prod.snd hw).symm
        refine lv_aload_n hx hb dX5_follows_97 rfl (lv_at hl 0 rfl) ?_
        refine lv_aload_n hx hb dX5_follows_98 rfl (lv_at hl 0 rfl) ?_
        refine va_get (D := (dC, dI)) (ci := 0) (v := .ref (ad 0)) (C := RX5) (T := TX5) (N := 28) hx hb hts in_X5 hown hK hP 0 tw_g rfl 0 (by decide) (hts _ q1986) (fun _ h9 => h9) rfl dX5_follows_99 ?_
        refine lv_bipush (v := 6) hx hb dX5_follows_102 (by decide) ?_
        obtain ⟨g11, hF⟩ := gd_s hF
        refine va_iald hx hb hK hP 1 0 tw_e0 rfl (inB_in g11) dX5_follows_104 ?_
        refine lv_iconst (v := 1) hx hb dX5_follows_105 (by decide) ?_
        refine lv_isub hx hb dX5_follows_106 ?_
        obtain ⟨r12, u12, e12, hF⟩ := bnd_s hF
        refine tw_calli (va_runV (As := [.int (((u10).2 0 (6 : Int32).toNatClampNeg) - 1)]) (rest := []) ⟨hx, hb, hml, hown, hts⟩ (mt_directionsOf l dC dI cI cZ m0 ad H.size u10 n  (((u10).2 0 (6 : Int32).toNatClampNeg) - 1) _ e12) (cwV 1 hts (lw_V q2229 q2231 qs64 q125 q2232) rfl rfl rfl (by decide +kernel) ⟨Nat.le_of_ble_eq_true rfl, Nat.le_of_ble_eq_true rfl⟩) (tw_preV hK hP hD _) rfl rfl hl.1 rfl (lv_room (Nat.le_of_ble_eq_true rfl)) dX5_follows_107 ⟨Nat.le_of_ble_eq_true rfl, Nat.le_of_ble_eq_true rfl⟩) hS hD hAA (fun rr uu H locs hw hP hD hS => ?_)
        obtain rfl : r12 = rr := (congrArg Prod.fst hw).symm
        obtain rfl : u12 = uu := (congrArg Prod.snd hw).symm
        refine lv_iconst (v := 1) hx hb dX5_follows_110 (by decide) ?_
        refine lv_icmp_le (tgt := 141) hx hb dX5_follows_111 (by decide) (fun c13 => ?_) (fun c13 => ?_)
        · replace hF := it_t c13 hF
          exact W.vret hx hb hr (fun t ht hW => ⟨⟨u12, rfl, Option.some.inj hF, by rw [ht]; exact hP, va_K.moved hW.alike hK⟩, hS.F ht⟩) hS.2.2 dX5_follows_141
        · replace hF := it_f c13 hF
          refine lv_aload_n hx hb dX5_follows_114 rfl (lv_at hl 0 rfl) ?_
          refine lv_aload_n hx hb dX5_follows_115 rfl (lv_at hl 0 rfl) ?_
          refine va_get (D := (dC, dI)) (ci := 0) (v := .ref (ad 19)) (C := RX5) (T := TX5) (N := 28) hx hb hts in_X5 hown hK hP 0 tw_g rfl 19 (by decide) (hts _ q2005) (fun _ h9 => h9) rfl dX5_follows_116 ?_
          refine lv_aload_n hx hb dX5_follows_119 rfl (lv_at hl 0 rfl) ?_
          refine lv_aload_n hx hb dX5_follows_120 rfl (lv_at hl 0 rfl) ?_
          refine lv_iload_n hx hb dX5_follows_121 rfl (lv_at hl 1 rfl) ?_
          obtain ⟨r14, u14, e14, hF⟩ := bnd_s hF
          refine tw_calli (va_runV (As := [.int x1]) (rest := [.ref m0, .ref (ad 19), .ref m0]) ⟨hx, hb, hml, hown, hts⟩ (mt_normOf l dC dI cI cZ m0 ad H.size u12 n  x1 _ e14) (cwV 1 hts (lw_V q2268 q2270 qs73 q125 q2271) rfl rfl rfl (by decide +kernel) ⟨Nat.le_of_ble_eq_true rfl, Nat.le_of_ble_eq_true rfl⟩) (tw_preV hK hP hD _) rfl rfl hl.1 rfl (lv_room (Nat.le_of_ble_eq_true rfl)) dX5_follows_122 ⟨Nat.le_of_ble_eq_true rfl, Nat.le_of_ble_eq_true rfl⟩) hS hD hAA (fun rr uu H locs hw hP hD hS => ?_)
          obtain rfl : r14 = rr := (congrArg Prod.fst hw).symm
          obtain rfl : u14 = uu := (congrArg Prod.snd hw).symm
          refine lv_aload_n hx hb dX5_follows_125 rfl (lv_at hl 0 rfl) ?_
          refine lv_iload_n hx hb dX5_follows_126 rfl (lv_at hl 1 rfl) ?_
          refine lv_iconst (v := 1) hx hb dX5_follows_127 (by decide) ?_
          refine lv_isub hx hb dX5_follows_128 ?_
          obtain ⟨r15, u15, e15, hF⟩ := bnd_s hF
          refine tw_calli (va_runV (As := [.int (x1 - 1)]) (rest := [.int r14, .ref m0, .ref (ad 19), .ref m0]) ⟨hx, hb, hml, hown, hts⟩ (mt_normOf l dC dI cI cZ m0 ad H.size u14 n  (x1 - 1) _ e15) (cwV 1 hts (lw_V q2268 q2270 qs73 q125 q2271) rfl rfl rfl (by decide +kernel) ⟨Nat.le_of_ble_eq_true rfl, Nat.le_of_ble_eq_true rfl⟩) (tw_preV hK hP hD _) rfl rfl hl.1 rfl (lv_room (Nat.le_of_ble_eq_true rfl)) dX5_follows_129 ⟨Nat.le_of_ble_eq_true rfl, Nat.le_of_ble_eq_true rfl⟩) hS hD hAA (fun rr uu H locs hw hP hD hS => ?_)
          obtain rfl : r15 = rr := (congrArg Prod.fst hw).symm
          obtain rfl : u15 = uu := (congrArg Prod.snd hw).symm
          obtain ⟨r16, u16, e16, hF⟩ := bnd_s hF
          refine tw_calli (va_runV (As := [.int r14, .int r15]) (rest := [.ref (ad 19), .ref m0]) ⟨hx, hb, hml, hown, hts⟩ (mt_quotient l dC dI cI cZ m0 ad H.size u15 n  r14 r15 _ e16) (cwV 2 hts (lw_V q2276 q2278 qs75 q125 q2279) rfl rfl rfl (by decide +kernel) ⟨Nat.le_of_ble_eq_true rfl, Nat.le_of_ble_eq_true rfl⟩) (tw_preV hK hP hD _) rfl rfl hl.1 rfl (lv_room (Nat.le_of_ble_eq_true rfl)) dX5_follows_132 ⟨Nat.le_of_ble_eq_true rfl, Nat.le_of_ble_eq_true rfl⟩) hS hD hAA (fun rr uu H locs hw hP hD hS => ?_)
          obtain rfl : r16 = rr := (congrArg Prod.fst hw).symm
          obtain rfl : u16 = uu := (congrArg Prod.snd hw).symm
          refine lv_iload_n hx hb dX5_follows_135 rfl (lv_at hl 1 rfl) ?_
          refine lv_iconst (v := 1) hx hb dX5_follows_136 (by decide) ?_
          refine lv_isub hx hb dX5_follows_137 ?_
          obtain ⟨r17, u17, e17, hF⟩ := bnd_s hF
          refine tw_callv (va_runV (As := [.ref (ad 19), .int r16, .int (x1 - 1)]) (rest := []) ⟨hx, hb, hml, hown, hts⟩ (mt_takesAway_c l dC dI cI cZ m0 ad H.size u16 n  r16 (x1 - 1) _ e17) (cwV 3 hts (lw_V q2284 q2286 qs77 q125 q2287) rfl rfl rfl (by decide +kernel) ⟨Nat.le_of_ble_eq_true rfl, Nat.le_of_ble_eq_true rfl⟩) (tw_preV hK hP hD _) rfl rfl hl.1 rfl (lv_room (Nat.le_of_ble_eq_true rfl)) dX5_follows_138 ⟨Nat.le_of_ble_eq_true rfl, Nat.le_of_ble_eq_true rfl⟩) hS hD hAA (fun uu H locs hw hP hD hS => ?_)
          obtain rfl : u17 = uu := (congrArg Prod.snd hw).symm
          exact W.vret hx hb hr (fun t ht hW => ⟨⟨u17, rfl, Option.some.inj hF, by rw [ht]; exact hP, va_K.moved hW.alike hK⟩, hS.F ht⟩) hS.2.2 dX5_follows_141
      · replace hF := it_f c8 hF
        refine lv_aload_n hx hb dX5_follows_61 rfl (lv_at hl 0 rfl) ?_
        refine va_get (D := (dC, dI)) (ci := 0) (v := .ref (ad 19)) (C := RX5) (T := TX5) (N := 28) hx hb hts in_X5 hown hK hP 0 tw_g rfl 19 (by decide) (hts _ q2005) (fun _ h9 => h9) rfl dX5_follows_62 ?_
        refine lv_iload_n hx hb dX5_follows_65 rfl (lv_at hl 2 rfl) ?_
        refine lv_aload_n hx hb dX5_follows_66 rfl (lv_at hl 0 rfl) ?_
        refine va_get (D := (dC, dI)) (ci := 0) (v := .ref (ad 18)) (C := RX5) (T := TX5) (N := 28) hx hb hts in_X5 hown hK hP 0 tw_g rfl 18 (by decide) (hts _ q2004) (fun _ h9 => h9) rfl dX5_follows_67 ?_
        refine lv_iload_n hx hb dX5_follows_70 rfl (lv_at hl 2 rfl) ?_
        obtain ⟨g18, hF⟩ := gd_s hF
        refine va_iald hx hb hK hP 8 0 tw_e18 rfl (inB_in g18) dX5_follows_71 ?_
        obtain ⟨g19, hF⟩ := gd_s hF
        refine va_iast hx hb hK hP hD hS 9 0 tw_e19 rfl (x := ((σ).2 18 (x2).toNatClampNeg)) (inB_in g19) dX5_follows_72 (fun H locs hP hD hS => ?_)
        rw [tw_s19] at hP hD
        refine lv_iinc (v := (x2 + 1)) (lv' := [(2, .int (x2 + 1)), (0, .ref m0), (1, .int x1)]) hx hb dX5_follows_73 hl (k := 2) rfl rfl (by decide) rfl (fun ls hl => ?_)
        refine lv_goto (tgt := 51) hx hb dX5_follows_76 (by decide) ?_
        exact lp1 (tw_sa σ 19 (x2).toNatClampNeg ((σ).2 18 (x2).toNatClampNeg)) x1 (x2 + 1) hF _ _ hP hD hS ls (lv_sub hl [1, 2, 0] rfl)
  have lp1 := loop n
  unfold F_follows F_follows_0 at hF
  refine lv_aload_n hx hb dX5_follows_0 rfl (lv_at hl 0 rfl) ?_
  refine va_get (D := (dC, dI)) (ci := 0) (v := .ref (ad 0)) (C := RX5) (T := TX5) (N := 28) hx hb hts in_X5 hown hK hP 0 tw_g rfl 0 (by decide) (hts _ q1986) (fun _ h9 => h9) rfl dX5_follows_1 ?_
  refine lv_iconst (v := 5) hx hb dX5_follows_4 (by decide) ?_
  obtain ⟨g1, hF⟩ := gd_s hF
  refine va_iald hx hb hK hP 1 0 tw_e0 rfl (inB_in g1) dX5_follows_5 ?_
  refine lv_iconst (v := 1) hx hb dX5_follows_6 (by decide) ?_
  refine lv_isub hx hb dX5_follows_7 ?_
  refine lv_istore_n (lv' := [(1, .int (((σ).2 0 (5 : Int32).toNatClampNeg) - 1)), (0, .ref m0)]) hx hb dX5_follows_8 rfl hl (by decide) rfl (fun ls hl => ?_)
  refine lv_aload_n hx hb dX5_follows_9 rfl (lv_at hl 1 rfl) ?_
  refine lv_iload_n hx hb dX5_follows_10 rfl (lv_at hl 0 rfl) ?_
  refine lv_aload_n hx hb dX5_follows_11 rfl (lv_at hl 1 rfl) ?_
  refine va_get (D := (dC, dI)) (ci := 0) (v := .ref (ad 17)) (C := RX5) (T := TX5) (N := 28) hx hb hts in_X5 hown hK hP 0 tw_g rfl 17 (by decide) (hts _ q2003) (fun _ h9 => h9) rfl dX5_follows_12 ?_
  obtain ⟨r2, u2, e2, hF⟩ := bnd_s hF
  refine tw_callv (va_runV (As := [.int (((σ).2 0 (5 : Int32).toNatClampNeg) - 1), .ref (ad 17)]) (rest := []) ⟨hx, hb, hml, hown, hts⟩ (mt_lays_x l dC dI cI cZ m0 ad s.heap.size σ n  (((σ).2 0 (5 : Int32).toNatClampNeg) - 1) _ e2) (cwV 2 hts (lw_V q2241 q2243 qs67 q125 q2244) rfl rfl rfl (by decide +kernel) ⟨Nat.le_of_ble_eq_true rfl, Nat.le_of_ble_eq_true rfl⟩) (tw_preV hK hP hD _) rfl rfl hl.1 rfl (lv_room (Nat.le_of_ble_eq_true rfl)) dX5_follows_15 ⟨Nat.le_of_ble_eq_true rfl, Nat.le_of_ble_eq_true rfl⟩) hS hD hAA (fun uu H locs hw hP hD hS => ?_)
  obtain rfl : u2 = uu := (congrArg Prod.snd hw).symm
  refine lv_aload_n hx hb dX5_follows_18 rfl (lv_at hl 1 rfl) ?_
  refine lv_aload_n hx hb dX5_follows_19 rfl (lv_at hl 1 rfl) ?_
  refine va_get (D := (dC, dI)) (ci := 0) (v := .ref (ad 17)) (C := RX5) (T := TX5) (N := 28) hx hb hts in_X5 hown hK hP 0 tw_g rfl 17 (by decide) (hts _ q2003) (fun _ h9 => h9) rfl dX5_follows_20 ?_
  refine lv_aload_n hx hb dX5_follows_23 rfl (lv_at hl 1 rfl) ?_
  refine va_get (D := (dC, dI)) (ci := 0) (v := .ref (ad 18)) (C := RX5) (T := TX5) (N := 28) hx hb hts in_X5 hown hK hP 0 tw_g rfl 18 (by decide) (hts _ q2004) (fun _ h9 => h9) rfl dX5_follows_24 ?_
  obtain ⟨r3, u3, e3, hF⟩ := bnd_s hF
  refine tw_callv (va_runV (As := [.ref (ad 17), .ref (ad 18)]) (rest := []) ⟨hx, hb, hml, hown, hts⟩ (mt_multiplies_xy l dC dI cI cZ m0 ad H.size u2 n   _ e3) (cwV 2 hts (lw_V q2249 q2251 qs69 q125 q2252) rfl rfl rfl (by decide +kernel) ⟨Nat.le_of_ble_eq_true rfl, Nat.le_of_ble_eq_true rfl⟩) (tw_preV hK hP hD _) rfl rfl hl.1 rfl (lv_room (Nat.le_of_ble_eq_true rfl)) dX5_follows_27 ⟨Nat.le_of_ble_eq_true rfl, Nat.le_of_ble_eq_true rfl⟩) hS hD hAA (fun uu H locs hw hP hD hS => ?_)
  obtain rfl : u3 = uu := (congrArg Prod.snd hw).symm
  refine lv_aload_n hx hb dX5_follows_30 rfl (lv_at hl 1 rfl) ?_
  refine va_get (D := (dC, dI)) (ci := 0) (v := .ref (ad 0)) (C := RX5) (T := TX5) (N := 28) hx hb hts in_X5 hown hK hP 0 tw_g rfl 0 (by decide) (hts _ q1986) (fun _ h9 => h9) rfl dX5_follows_31 ?_
  refine lv_iconst (v := 4) hx hb dX5_follows_34 (by decide) ?_
  obtain ⟨g4, hF⟩ := gd_s hF
  refine va_iald hx hb hK hP 1 0 tw_e0 rfl (inB_in g4) dX5_follows_35 ?_
  refine lv_iconst (v := 1) hx hb dX5_follows_36 (by decide) ?_
  refine lv_icmp_ne (tgt := 49) hx hb dX5_follows_37 (by decide) (fun c5 => ?_) (fun c5 => ?_)
  · replace hF := it_f c5 hF
    refine lv_iconst (v := 0) hx hb dX5_follows_49 (by decide) ?_
    refine lv_istore_n (lv' := [(2, .int 0), (1, .int (((σ).2 0 (5 : Int32).toNatClampNeg) - 1)), (0, .ref m0)]) hx hb dX5_follows_50 rfl hl (by decide) rfl (fun ls hl => ?_)
    exact lp1 u3 (((σ).2 0 (5 : Int32).toNatClampNeg) - 1) 0 hF _ _ hP hD hS ls (lv_sub hl [2, 1, 0] rfl)
  · replace hF := it_t c5 hF
    refine lv_aload_n hx hb dX5_follows_40 rfl (lv_at hl 1 rfl) ?_
    refine lv_aload_n hx hb dX5_follows_41 rfl (lv_at hl 1 rfl) ?_
    refine va_get (D := (dC, dI)) (ci := 0) (v := .ref (ad 18)) (C := RX5) (T := TX5) (N := 28) hx hb hts in_X5 hown hK hP 0 tw_g rfl 18 (by decide) (hts _ q2004) (fun _ h9 => h9) rfl dX5_follows_42 ?_
    obtain ⟨r6, u6, e6, hF⟩ := bnd_s hF
    refine tw_callv (va_runV (As := [.ref (ad 18)]) (rest := []) ⟨hx, hb, hml, hown, hts⟩ (mt_remains_y l dC dI cI cZ m0 ad H.size u3 n   _ e6) (cwV 1 hts (lw_V q2260 q2262 qs71 q125 q2263) rfl rfl rfl (by decide +kernel) ⟨Nat.le_of_ble_eq_true rfl, Nat.le_of_ble_eq_true rfl⟩) (tw_preV hK hP hD _) rfl rfl hl.1 rfl (lv_room (Nat.le_of_ble_eq_true rfl)) dX5_follows_45 ⟨Nat.le_of_ble_eq_true rfl, Nat.le_of_ble_eq_true rfl⟩) hS hD hAA (fun uu H locs hw hP hD hS => ?_)
    obtain rfl : u6 = uu := (congrArg Prod.snd hw).symm
    exact W.vret hx hb hr (fun t ht hW => ⟨⟨u6, rfl, Option.some.inj hF, by rw [ht]; exact hP, va_K.moved hW.alike hK⟩, hS.F ht⟩) hS.2.2 dX5_follows_48

def F_restarts_1 (R : Nat → Tw → Option (Int32 × Tw)) (n : Nat) (σ : Tw) : Option (Int32 × Tw) := gd (inB 8 162) (gd (inB 1 162) (if ((σ).2 0 (1 : Int32).toNatClampNeg) ≤ ((σ).2 0 (8 : Int32).toNatClampNeg) then some (0, σ) else gd (inB 8 162) (bnd (F_laysUnit_x n σ ((σ).2 0 (8 : Int32).toNatClampNeg)) (fun r8 u8 => bnd (F_remains_x n u8 ) (fun r9 u9 => gd (inB 8 162) (gd (inB 8 162) (bnd (F_ownProduct n (tw_sa u9 0 (8 : Int32).toNatClampNeg (((u9).2 0 (8 : Int32).toNatClampNeg) + 1)) ) (fun r12 u12 => if r12 = 0 then R 1 u12  else gd (inB 6 162) (gd (inB 6 162) (some (1, (tw_sa u12 0 (6 : Int32).toNatClampNeg (((u12).2 0 (6 : Int32).toNatClampNeg) + 1)))))))))))))
def F_restarts_r : Nat → Nat → Tw → Option (Int32 × Tw)
  | 0 => fun _ _  => none
  | n + 1 => fun k => match k with  | _ => F_restarts_1 (F_restarts_r n) n
def F_restarts_0 (R : Nat → Tw → Option (Int32 × Tw)) (n : Nat) (σ : Tw) : Option (Int32 × Tw) := gd (inB 6 162) (gd (inB 3 162) (if (((σ).2 0 (6 : Int32).toNatClampNeg) - 1) < ((σ).2 0 (3 : Int32).toNatClampNeg) then R 1 σ  else some (0, σ)))
def F_restarts (n : Nat) (σ : Tw) : Option (Int32 × Tw) := F_restarts_0 (F_restarts_r n) n σ 
set_option maxHeartbeats 4000000 in
set_option maxRecDepth 100000 in
theorem mt_restarts (l : Launch) (dC : Nat → ClassId) (dI : Nat → Nat → Nat) (cI cZ : ClassId) (m0 : Nat) (ad : Nat → Nat) (sz : Nat) (σ : Tw) (n : Nat)  (out : Int32 × Tw) (hF : F_restarts n σ  = some out) : Met l yX5_restarts (ws_ yX5_restarts cX5_restarts 1 (some .boolean)) ({ frames := 6, cells := 0, slots := 0, locals := 134 }) (va_Pc [.ref m0] (tw_Pre dC dI cI cZ m0 ad sz σ)) (va_Qi (fun r u => (r, u) = out) (tw_B dC dI cI cZ m0 ad) (tw_A m0 ad sz)) 0 0 (tw_A m0 ad sz) := by
  refine Met.ofW (cc := cX5_restarts) (maxL := 1) (ret := (some .boolean)) (by decide +kernel) rfl ?_
  intro p e s m args below meth c s₁ B hml hv
  obtain ⟨rfl, hsz, hP, hK, hD0⟩ := hv
  have hx := B.exec
  have hb := B.bytes
  have hr := B.returns
  have hts := atoms_spec (ws := (ws_ yX5_restarts cX5_restarts 1 (some .boolean))) B.pre
  have hts : ∀ w ∈ lw_all, w.before _ s = true := fun w h => hts w (List.mem_cons_of_mem _ h)
  have hown : s.vm.findClass RX5 = some m.cls := findClass_of_methodNamed B.named
  have hlocks := B.notSynchronized
  subst hsz
  have hD := tw_Ds (z := s.heap.size) hD0
  have hAA := fun z (h : s.heap.size ≤ z) => tw_Am (m0 := m0) (ad := ad) h
  generalize hAe : tw_A m0 ad s.heap.size = A at hD hAA ⊢
  have hS : va_S A s.heap s.heap [] := va_S.rf
  have hP : va_P (dC, dI) vwCl (tw_ws m0 ad cI cZ σ) s.heap := hP
  have hl := lv_entry ([.ref m0]) (n := 1) (Nat.le_of_ble_eq_true rfl)
  rw [lg_entry_eq]
  generalize (lg_sl ([.ref m0]) ++ List.replicate (1 - (lg_sl ([.ref m0])).length) Slot.unset).toArray = ls at hl ⊢
  have hl : lv_has ls 1 [(0, .ref m0)] := hl
  have loop : ∀ n : Nat, (∀ (σ : Tw), F_restarts_r n 1 σ  = some out → ∀ (H : Heap) (locs : List Loc), va_P (dC, dI) vwCl (tw_ws m0 ad cI cZ σ) H → va_D A (tw_ws m0 ad cI cZ σ) → va_S A s.heap H locs → ∀ ls : Array Slot, lv_has ls 1 [(0, .ref m0)] → W p l e (headSpec (ws_ yX5_restarts cX5_restarts 1 (some .boolean)) ({ frames := 6, cells := 0, slots := 0, locals := 134 })).room s m ([.ref m0] : List Value).toArray below meth c H locs 0 0 (MQ below (va_Qi (fun r u => (r, u) = out) (tw_B dC dI cI cZ m0 ad) A) ([.ref m0] : List Value).toArray s 0 0 A) (F0 m 20 ls [])) := by
    intro n
    induction n with
    | zero => exact (fun _  h => nomatch h)
    | succ n ih =>
      have lp1 := ih
      intro σ  hF H locs hP hD hS ls hl
      replace hF : F_restarts_1 (F_restarts_r n) n σ  = some out := hF
      unfold F_restarts_1 at hF
      refine lv_aload_n hx hb dX5_restarts_20 rfl (lv_at hl 0 rfl) ?_
      refine va_get (D := (dC, dI)) (ci := 0) (v := .ref (ad 0)) (C := RX5) (T := TX5) (N := 28) hx hb hts in_X5 hown hK hP 0 tw_g rfl 0 (by decide) (hts _ q1986) (fun _ h9 => h9) rfl dX5_restarts_21 ?_
      refine lv_bipush (v := 8) hx hb dX5_restarts_24 (by decide) ?_
      obtain ⟨g4, hF⟩ := gd_s hF
      refine va_iald hx hb hK hP 1 0 tw_e0 rfl (inB_in g4) dX5_restarts_26 ?_
      refine lv_aload_n hx hb dX5_restarts_27 rfl (lv_at hl 0 rfl) ?_
      refine va_get (D := (dC, dI)) (ci := 0) (v := .ref (ad 0)) (C := RX5) (T := TX5) (N := 28) hx hb hts in_X5 hown hK hP 0 tw_g rfl 0 (by decide) (hts _ q1986) (fun _ h9 => h9) rfl dX5_restarts_28 ?_
      refine lv_iconst (v := 1) hx hb dX5_restarts_31 (by decide) ?_
      obtain ⟨g5, hF⟩ := gd_s hF
      refine va_iald hx hb hK hP 1 0 tw_e0 rfl (inB_in g5) dX5_restarts_32 ?_
      refine lv_icmp_ge (tgt := 93) hx hb dX5_restarts_33 (by decide) (fun c6 => ?_) (fun c6 => ?_)
      · replace hF := it_t c6 hF
        refine lv_iconst (v := 0) hx hb dX5_restarts_93 (by decide) ?_
        exact W.zret (v := 0) hx hb hr rfl (fun t ht hW => ⟨⟨0, σ, rfl, Option.some.inj hF, by rw [ht]; exact hP, va_K.moved hW.alike hK⟩, hS.F ht⟩) hS.2.2 dX5_restarts_94
      · replace hF := it_f c6 hF
        refine lv_aload_n hx hb dX5_restarts_36 rfl (lv_at hl 0 rfl) ?_
        refine lv_aload_n hx hb dX5_restarts_37 rfl (lv_at hl 0 rfl) ?_
        refine va_get (D := (dC, dI)) (ci := 0) (v := .ref (ad 0)) (C := RX5) (T := TX5) (N := 28) hx hb hts in_X5 hown hK hP 0 tw_g rfl 0 (by decide) (hts _ q1986) (fun _ h9 => h9) rfl dX5_restarts_38 ?_
        refine lv_bipush (v := 8) hx hb dX5_restarts_41 (by decide) ?_
        obtain ⟨g7, hF⟩ := gd_s hF
        refine va_iald hx hb hK hP 1 0 tw_e0 rfl (inB_in g7) dX5_restarts_43 ?_
        refine lv_aload_n hx hb dX5_restarts_44 rfl (lv_at hl 0 rfl) ?_
        refine va_get (D := (dC, dI)) (ci := 0) (v := .ref (ad 17)) (C := RX5) (T := TX5) (N := 28) hx hb hts in_X5 hown hK hP 0 tw_g rfl 17 (by decide) (hts _ q2003) (fun _ h9 => h9) rfl dX5_restarts_45 ?_
        obtain ⟨r8, u8, e8, hF⟩ := bnd_s hF
        refine tw_callv (va_runV (As := [.int ((σ).2 0 (8 : Int32).toNatClampNeg), .ref (ad 17)]) (rest := []) ⟨hx, hb, hml, hown, hts⟩ (mt_laysUnit_x l dC dI cI cZ m0 ad H.size σ n  ((σ).2 0 (8 : Int32).toNatClampNeg) _ e8) (cwV 2 hts (lw_V q2292 q2294 qs79 q125 q2295) rfl rfl rfl (by decide +kernel) ⟨Nat.le_of_ble_eq_true rfl, Nat.le_of_ble_eq_true rfl⟩) (tw_preV hK hP hD _) rfl rfl hl.1 rfl (lv_room (Nat.le_of_ble_eq_true rfl)) dX5_restarts_48 ⟨Nat.le_of_ble_eq_true rfl, Nat.le_of_ble_eq_true rfl⟩) hS hD hAA (fun uu H locs hw hP hD hS => ?_)
        obtain rfl : u8 = uu := (congrArg Prod.snd hw).symm
        refine lv_aload_n hx hb dX5_restarts_51 rfl (lv_at hl 0 rfl) ?_
        refine lv_aload_n hx hb dX5_restarts_52 rfl (lv_at hl 0 rfl) ?_
        refine va_get (D := (dC, dI)) (ci := 0) (v := .ref (ad 17)) (C := RX5) (T := TX5) (N := 28) hx hb hts in_X5 hown hK hP 0 tw_g rfl 17 (by decide) (hts _ q2003) (fun _ h9 => h9) rfl dX5_restarts_53 ?_
        obtain ⟨r9, u9, e9, hF⟩ := bnd_s hF
        refine tw_callv (va_runV (As := [.ref (ad 17)]) (rest := []) ⟨hx, hb, hml, hown, hts⟩ (mt_remains_x l dC dI cI cZ m0 ad H.size u8 n   _ e9) (cwV 1 hts (lw_V q2260 q2262 qs71 q125 q2263) rfl rfl rfl (by decide +kernel) ⟨Nat.le_of_ble_eq_true rfl, Nat.le_of_ble_eq_true rfl⟩) (tw_preV hK hP hD _) rfl rfl hl.1 rfl (lv_room (Nat.le_of_ble_eq_true rfl)) dX5_restarts_56 ⟨Nat.le_of_ble_eq_true rfl, Nat.le_of_ble_eq_true rfl⟩) hS hD hAA (fun uu H locs hw hP hD hS => ?_)
        obtain rfl : u9 = uu := (congrArg Prod.snd hw).symm
        refine lv_aload_n hx hb dX5_restarts_59 rfl (lv_at hl 0 rfl) ?_
        refine va_get (D := (dC, dI)) (ci := 0) (v := .ref (ad 0)) (C := RX5) (T := TX5) (N := 28) hx hb hts in_X5 hown hK hP 0 tw_g rfl 0 (by decide) (hts _ q1986) (fun _ h9 => h9) rfl dX5_restarts_60 ?_
        refine lv_bipush (v := 8) hx hb dX5_restarts_63 (by decide) ?_
        refine lv_dup2_11 hx hb dX5_restarts_65 rfl rfl ?_
        obtain ⟨g10, hF⟩ := gd_s hF
        refine va_iald hx hb hK hP 1 0 tw_e0 rfl (inB_in g10) dX5_restarts_66 ?_
        refine lv_iconst (v := 1) hx hb dX5_restarts_67 (by decide) ?_
        refine lv_iadd hx hb dX5_restarts_68 ?_
        obtain ⟨g11, hF⟩ := gd_s hF
        refine va_iast hx hb hK hP hD hS 1 0 tw_e0 rfl (x := (((u9).2 0 (8 : Int32).toNatClampNeg) + 1)) (inB_in g11) dX5_restarts_69 (fun H locs hP hD hS => ?_)
        rw [tw_s0] at hP hD
        refine lv_aload_n hx hb dX5_restarts_70 rfl (lv_at hl 0 rfl) ?_
        obtain ⟨r12, u12, e12, hF⟩ := bnd_s hF
        refine tw_calli (va_runV (As := []) (rest := []) ⟨hx, hb, hml, hown, hts⟩ (mt_ownProduct l dC dI cI cZ m0 ad H.size (tw_sa u9 0 (8 : Int32).toNatClampNeg (((u9).2 0 (8 : Int32).toNatClampNeg) + 1)) n   _ e12) (cwV 0 hts (lw_V q2296 q2298 qs80 q125 q2299) rfl rfl rfl (by decide +kernel) ⟨Nat.le_of_ble_eq_true rfl, Nat.le_of_ble_eq_true rfl⟩) (tw_preV hK hP hD _) rfl rfl hl.1 rfl (lv_room (Nat.le_of_ble_eq_true rfl)) dX5_restarts_71 ⟨Nat.le_of_ble_eq_true rfl, Nat.le_of_ble_eq_true rfl⟩) hS hD hAA (fun rr uu H locs hw hP hD hS => ?_)
        obtain rfl : r12 = rr := (congrArg Prod.fst hw).symm
        obtain rfl : u12 = uu := (congrArg Prod.snd hw).symm
        refine lv_if_ne (tgt := 80) hx hb dX5_restarts_74 (by decide) (fun c13 => ?_) (fun c13 => ?_)
        · replace hF := it_f c13 hF
          refine lv_aload_n hx hb dX5_restarts_80 rfl (lv_at hl 0 rfl) ?_
          refine va_get (D := (dC, dI)) (ci := 0) (v := .ref (ad 0)) (C := RX5) (T := TX5) (N := 28) hx hb hts in_X5 hown hK hP 0 tw_g rfl 0 (by decide) (hts _ q1986) (fun _ h9 => h9) rfl dX5_restarts_81 ?_
          refine lv_bipush (v := 6) hx hb dX5_restarts_84 (by decide) ?_
          refine lv_dup2_11 hx hb dX5_restarts_86 rfl rfl ?_
          obtain ⟨g14, hF⟩ := gd_s hF
          refine va_iald hx hb hK hP 1 0 tw_e0 rfl (inB_in g14) dX5_restarts_87 ?_
          refine lv_iconst (v := 1) hx hb dX5_restarts_88 (by decide) ?_
          refine lv_iadd hx hb dX5_restarts_89 ?_
          obtain ⟨g15, hF⟩ := gd_s hF
          refine va_iast hx hb hK hP hD hS 1 0 tw_e0 rfl (x := (((u12).2 0 (6 : Int32).toNatClampNeg) + 1)) (inB_in g15) dX5_restarts_90 (fun H locs hP hD hS => ?_)
          rw [tw_s0] at hP hD
          refine lv_iconst (v := 1) hx hb dX5_restarts_91 (by decide) ?_
          exact W.zret (v := 1) hx hb hr rfl (fun t ht hW => ⟨⟨1, (tw_sa u12 0 (6 : Int32).toNatClampNeg (((u12).2 0 (6 : Int32).toNatClampNeg) + 1)), rfl, Option.some.inj hF, by rw [ht]; exact hP, va_K.moved hW.alike hK⟩, hS.F ht⟩) hS.2.2 dX5_restarts_92
        · replace hF := it_t c13 hF
          refine lv_goto (tgt := 20) hx hb dX5_restarts_77 (by decide) ?_
          exact lp1 u12  hF _ _ hP hD hS ls (lv_sub hl [0] rfl)
  have lp1 := loop n
  unfold F_restarts F_restarts_0 at hF
  refine lv_aload_n hx hb dX5_restarts_0 rfl (lv_at hl 0 rfl) ?_
  refine va_get (D := (dC, dI)) (ci := 0) (v := .ref (ad 0)) (C := RX5) (T := TX5) (N := 28) hx hb hts in_X5 hown hK hP 0 tw_g rfl 0 (by decide) (hts _ q1986) (fun _ h9 => h9) rfl dX5_restarts_1 ?_
  refine lv_bipush (v := 6) hx hb dX5_restarts_4 (by decide) ?_
  obtain ⟨g1, hF⟩ := gd_s hF
  refine va_iald hx hb hK hP 1 0 tw_e0 rfl (inB_in g1) dX5_restarts_6 ?_
  refine lv_iconst (v := 1) hx hb dX5_restarts_7 (by decide) ?_
  refine lv_isub hx hb dX5_restarts_8 ?_
  refine lv_aload_n hx hb dX5_restarts_9 rfl (lv_at hl 0 rfl) ?_
  refine va_get (D := (dC, dI)) (ci := 0) (v := .ref (ad 0)) (C := RX5) (T := TX5) (N := 28) hx hb hts in_X5 hown hK hP 0 tw_g rfl 0 (by decide) (hts _ q1986) (fun _ h9 => h9) rfl dX5_restarts_10 ?_
  refine lv_iconst (v := 3) hx hb dX5_restarts_13 (by decide) ?_
  obtain ⟨g2, hF⟩ := gd_s hF
  refine va_iald hx hb hK hP 1 0 tw_e0 rfl (inB_in g2) dX5_restarts_14 ?_
  refine lv_icmp_lt (tgt := 20) hx hb dX5_restarts_15 (by decide) (fun c3 => ?_) (fun c3 => ?_)
  · replace hF := it_t c3 hF
    exact lp1 σ  hF _ _ hP hD hS ls (lv_sub hl [0] rfl)
  · replace hF := it_f c3 hF
    refine lv_iconst (v := 0) hx hb dX5_restarts_18 (by decide) ?_
    exact W.zret (v := 0) hx hb hr rfl (fun t ht hW => ⟨⟨0, σ, rfl, Option.some.inj hF, by rw [ht]; exact hP, va_K.moved hW.alike hK⟩, hS.F ht⟩) hS.2.2 dX5_restarts_19

def F_ends (σ : Tw) (p1 : Int32) : Option (Int32 × Tw) := gd (inB 6 162) (gd (inB ((89 + ((σ).2 0 (6 : Int32).toNatClampNeg)) - 1) 162) (some (p1, (tw_sa σ 0 (((89 + ((σ).2 0 (6 : Int32).toNatClampNeg)) - 1)).toNatClampNeg p1))))
set_option maxHeartbeats 4000000 in
set_option maxRecDepth 100000 in
theorem mt_ends (l : Launch) (dC : Nat → ClassId) (dI : Nat → Nat → Nat) (cI cZ : ClassId) (m0 : Nat) (ad : Nat → Nat) (sz : Nat) (σ : Tw)  (p1 : Int32) (out : Int32 × Tw) (hF : F_ends σ p1 = some out) : Met l yX5_ends (ws_ yX5_ends cX5_ends 2 (some .int)) ({ frames := 0, cells := 0, slots := 0, locals := 0 }) (va_Pc [.ref m0, .int p1] (tw_Pre dC dI cI cZ m0 ad sz σ)) (va_Qi (fun r u => (r, u) = out) (tw_B dC dI cI cZ m0 ad) (tw_A m0 ad sz)) 0 0 (tw_A m0 ad sz) := by
  refine Met.ofW (cc := cX5_ends) (maxL := 2) (ret := (some .int)) (by decide +kernel) rfl ?_
  intro p e s m args below meth c s₁ B hml hv
  obtain ⟨rfl, hsz, hP, hK, hD0⟩ := hv
  have hx := B.exec
  have hb := B.bytes
  have hr := B.returns
  have hts := atoms_spec (ws := (ws_ yX5_ends cX5_ends 2 (some .int))) B.pre
  have hts : ∀ w ∈ lw_all, w.before _ s = true := fun w h => hts w (List.mem_cons_of_mem _ h)
  have hown : s.vm.findClass RX5 = some m.cls := findClass_of_methodNamed B.named
  have hlocks := B.notSynchronized
  subst hsz
  have hD := tw_Ds (z := s.heap.size) hD0
  have hAA := fun z (h : s.heap.size ≤ z) => tw_Am (m0 := m0) (ad := ad) h
  generalize hAe : tw_A m0 ad s.heap.size = A at hD hAA ⊢
  have hS : va_S A s.heap s.heap [] := va_S.rf
  have hP : va_P (dC, dI) vwCl (tw_ws m0 ad cI cZ σ) s.heap := hP
  have hl := lv_entry ([.ref m0, .int p1]) (n := 2) (Nat.le_of_ble_eq_true rfl)
  rw [lg_entry_eq]
  generalize (lg_sl ([.ref m0, .int p1]) ++ List.replicate (2 - (lg_sl ([.ref m0, .int p1])).length) Slot.unset).toArray = ls at hl ⊢
  have hl : lv_has ls 2 [(0, .ref m0), (1, .int p1)] := hl
  unfold F_ends at hF
  refine lv_aload_n hx hb dX5_ends_0 rfl (lv_at hl 0 rfl) ?_
  refine va_get (D := (dC, dI)) (ci := 0) (v := .ref (ad 0)) (C := RX5) (T := TX5) (N := 28) hx hb hts in_X5 hown hK hP 0 tw_g rfl 0 (by decide) (hts _ q1986) (fun _ h9 => h9) rfl dX5_ends_1 ?_
  refine lv_bipush (v := 89) hx hb dX5_ends_4 (by decide) ?_
  refine lv_aload_n hx hb dX5_ends_6 rfl (lv_at hl 0 rfl) ?_
  refine va_get (D := (dC, dI)) (ci := 0) (v := .ref (ad 0)) (C := RX5) (T := TX5) (N := 28) hx hb hts in_X5 hown hK hP 0 tw_g rfl 0 (by decide) (hts _ q1986) (fun _ h9 => h9) rfl dX5_ends_7 ?_
  refine lv_bipush (v := 6) hx hb dX5_ends_10 (by decide) ?_
  obtain ⟨g1, hF⟩ := gd_s hF
  refine va_iald hx hb hK hP 1 0 tw_e0 rfl (inB_in g1) dX5_ends_12 ?_
  refine lv_iadd hx hb dX5_ends_13 ?_
  refine lv_iconst (v := 1) hx hb dX5_ends_14 (by decide) ?_
  refine lv_isub hx hb dX5_ends_15 ?_
  refine lv_iload_n hx hb dX5_ends_16 rfl (lv_at hl 1 rfl) ?_
  obtain ⟨g2, hF⟩ := gd_s hF
  refine va_iast hx hb hK hP hD hS 1 0 tw_e0 rfl (x := p1) (inB_in g2) dX5_ends_17 (fun H locs hP hD hS => ?_)
  rw [tw_s0] at hP hD
  refine lv_iload_n hx hb dX5_ends_18 rfl (lv_at hl 1 rfl) ?_
  exact W.iret (v := p1) hx hb hr (fun t ht hW => ⟨⟨p1, (tw_sa σ 0 (((89 + ((σ).2 0 (6 : Int32).toNatClampNeg)) - 1)).toNatClampNeg p1), rfl, Option.some.inj hF, by rw [ht]; exact hP, va_K.moved hW.alike hK⟩, hS.F ht⟩) hS.2.2 dX5_ends_19
